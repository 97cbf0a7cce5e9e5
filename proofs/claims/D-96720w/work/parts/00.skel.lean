-- ===== PART A: goes FIRST, ahead of the names: the tables' words, and 'selects' of the private methods out of them =====
/-- a private method of a class that the tables say can be made, by its rows of tables_1 -/
def lw_okq (q : MethodName × Nat) : Prop := (q.1.cls ≠ "java/lang/invoke/MethodHandle" ∧ q.1.cls ≠ "java/lang/invoke/VarHandle") ∧ Cond.instantiable q.1.cls q.2 ∈ tables_1 ∧ Cond.privateMethod q.1 ∈ tables_1 ∧ Cond.instanceMethod q.1 ∈ tables_1
set_option maxRecDepth 100000
theorem lw_t1 {w : Cond} (h : w ∈ tables_1_1) : w ∈ tables_1 := List.mem_append_left _ h
theorem lw_t2 {w : Cond} (h : w ∈ tables_1_2) : w ∈ tables_1 := List.mem_append_right _ (List.mem_append_left _ h)
theorem lw_t3 {w : Cond} (h : w ∈ tables_1_3) : w ∈ tables_1 := List.mem_append_right _ (List.mem_append_right _ (List.mem_append_left _ h))
theorem lw_t4 {w : Cond} (h : w ∈ tables_1_4) : w ∈ tables_1 := List.mem_append_right _ (List.mem_append_right _ (List.mem_append_right _ (List.mem_append_left _ h)))
theorem lw_t5 {w : Cond} (h : w ∈ tables_1_5) : w ∈ tables_1 := List.mem_append_right _ (List.mem_append_right _ (List.mem_append_right _ (List.mem_append_right _ (List.mem_append_left _ h))))
theorem lw_t6 {w : Cond} (h : w ∈ tables_1_6) : w ∈ tables_1 := List.mem_append_right _ (List.mem_append_right _ (List.mem_append_right _ (List.mem_append_right _ (List.mem_append_right _ (List.mem_append_left _ h)))))
theorem lw_t7 {w : Cond} (h : w ∈ tables_1_7) : w ∈ tables_1 := List.mem_append_right _ (List.mem_append_right _ (List.mem_append_right _ (List.mem_append_right _ (List.mem_append_right _ (List.mem_append_right _ (List.mem_append_left _ h))))))
theorem lw_t8 {w : Cond} (h : w ∈ tables_1_8) : w ∈ tables_1 := List.mem_append_right _ (List.mem_append_right _ (List.mem_append_right _ (List.mem_append_right _ (List.mem_append_right _ (List.mem_append_right _ (List.mem_append_right _ h))))))
theorem lw_p0 : lw_okq (⟨"java/lang/NullPointerException", "getExtendedNPEMessage", "()Ljava/lang/String;"⟩, 8) := ⟨⟨by decide +kernel, by decide +kernel⟩, lw_t1 (List.mem_of_getElem? (i := 197) rfl), lw_t1 (List.mem_of_getElem? (i := 195) rfl), lw_t1 (List.mem_of_getElem? (i := 196) rfl)⟩
theorem lw_p1 : lw_okq (⟨"java/lang/Throwable", "fillInStackTrace", "(I)Ljava/lang/Throwable;"⟩, 6) := ⟨⟨by decide +kernel, by decide +kernel⟩, lw_t1 (List.mem_of_getElem? (i := 209) rfl), lw_t1 (List.mem_of_getElem? (i := 207) rfl), lw_t1 (List.mem_of_getElem? (i := 208) rfl)⟩
theorem lw_p2 : lw_okq (⟨"PointAtWhoIsLost", "no", "(I)I"⟩, 8) := ⟨⟨by decide +kernel, by decide +kernel⟩, lw_t1 (List.mem_of_getElem? (i := 36) rfl), lw_t2 (List.mem_of_getElem? (i := 19) rfl), lw_t2 (List.mem_of_getElem? (i := 20) rfl)⟩
theorem lw_p3 : lw_okq (⟨"PointAtWhoIsLost", "rowIn", "(I)Ljava/lang/Object;"⟩, 8) := ⟨⟨by decide +kernel, by decide +kernel⟩, lw_t1 (List.mem_of_getElem? (i := 36) rfl), lw_t2 (List.mem_of_getElem? (i := 52) rfl), lw_t2 (List.mem_of_getElem? (i := 53) rfl)⟩
theorem lw_p4 : lw_okq (⟨"PointAtWhoIsLost", "armOf", "(LPointAtWhoIsLost$Post;)I"⟩, 8) := ⟨⟨by decide +kernel, by decide +kernel⟩, lw_t1 (List.mem_of_getElem? (i := 36) rfl), lw_t2 (List.mem_of_getElem? (i := 179) rfl), lw_t2 (List.mem_of_getElem? (i := 180) rfl)⟩
theorem lw_p5 : lw_okq (⟨"PointAtWhoIsLost$Reader", "next", "()V"⟩, 7) := ⟨⟨by decide +kernel, by decide +kernel⟩, lw_t3 (List.mem_of_getElem? (i := 145) rfl), lw_t3 (List.mem_of_getElem? (i := 185) rfl), lw_t3 (List.mem_of_getElem? (i := 186) rfl)⟩
theorem lw_p6 : lw_okq (⟨"PointAtWhoIsLost$Reader", "isIn", "(II)Z"⟩, 7) := ⟨⟨by decide +kernel, by decide +kernel⟩, lw_t3 (List.mem_of_getElem? (i := 145) rfl), lw_t3 (List.mem_of_getElem? (i := 189) rfl), lw_t3 (List.mem_of_getElem? (i := 190) rfl)⟩
theorem lw_p7 : lw_okq (⟨"PointAtWhoIsLost$Reader", "item", "()V"⟩, 7) := ⟨⟨by decide +kernel, by decide +kernel⟩, lw_t3 (List.mem_of_getElem? (i := 145) rfl), lw_t4 (List.mem_of_getElem? (i := 142) rfl), lw_t4 (List.mem_of_getElem? (i := 143) rfl)⟩
theorem lw_p8 : lw_okq (⟨"PointAtWhoIsLost$Reader", "wrong", "()LPointAtWhoIsLost$Fault;"⟩, 7) := ⟨⟨by decide +kernel, by decide +kernel⟩, lw_t3 (List.mem_of_getElem? (i := 145) rfl), lw_t4 (List.mem_of_getElem? (i := 146) rfl), lw_t4 (List.mem_of_getElem? (i := 147) rfl)⟩
theorem lw_p9 : lw_okq (⟨"PointAtWhoIsLost$Reader", "number", "(II)I"⟩, 7) := ⟨⟨by decide +kernel, by decide +kernel⟩, lw_t3 (List.mem_of_getElem? (i := 145) rfl), lw_t4 (List.mem_of_getElem? (i := 236) rfl), lw_t4 (List.mem_of_getElem? (i := 237) rfl)⟩
theorem lw_p10 : lw_okq (⟨"PointAtWhoIsLost$Reader", "need", "(Z)V"⟩, 7) := ⟨⟨by decide +kernel, by decide +kernel⟩, lw_t3 (List.mem_of_getElem? (i := 145) rfl), lw_t5 (List.mem_of_getElem? (i := 2) rfl), lw_t5 (List.mem_of_getElem? (i := 3) rfl)⟩
theorem lw_p11 : lw_okq (⟨"PointAtWhoIsLost$Reader", "cell", "(Z)I"⟩, 7) := ⟨⟨by decide +kernel, by decide +kernel⟩, lw_t3 (List.mem_of_getElem? (i := 145) rfl), lw_t5 (List.mem_of_getElem? (i := 6) rfl), lw_t5 (List.mem_of_getElem? (i := 7) rfl)⟩
theorem lw_p12 : lw_okq (⟨"PointAtWhoIsLost$Reader", "takes", "(Ljava/lang/String;)Z"⟩, 7) := ⟨⟨by decide +kernel, by decide +kernel⟩, lw_t3 (List.mem_of_getElem? (i := 145) rfl), lw_t5 (List.mem_of_getElem? (i := 14) rfl), lw_t5 (List.mem_of_getElem? (i := 15) rfl)⟩
theorem lw_p13 : lw_okq (⟨"PointAtWhoIsLost", "becomes", "(LPointAtWhoIsLost$Fen;)V"⟩, 8) := ⟨⟨by decide +kernel, by decide +kernel⟩, lw_t1 (List.mem_of_getElem? (i := 36) rfl), lw_t5 (List.mem_of_getElem? (i := 18) rfl), lw_t5 (List.mem_of_getElem? (i := 19) rfl)⟩
theorem lw_p14 : lw_okq (⟨"PointAtWhoIsLost", "armAt", "(LPointAtWhoIsLost$Post;I)I"⟩, 8) := ⟨⟨by decide +kernel, by decide +kernel⟩, lw_t1 (List.mem_of_getElem? (i := 36) rfl), lw_t5 (List.mem_of_getElem? (i := 84) rfl), lw_t5 (List.mem_of_getElem? (i := 85) rfl)⟩
theorem lw_p15 : lw_okq (⟨"PointAtWhoIsLost", "pairsIn", "(ZII)[J"⟩, 8) := ⟨⟨by decide +kernel, by decide +kernel⟩, lw_t1 (List.mem_of_getElem? (i := 36) rfl), lw_t5 (List.mem_of_getElem? (i := 96) rfl), lw_t5 (List.mem_of_getElem? (i := 97) rfl)⟩
def lw_privs_1 : List (MethodName × Nat) := [(⟨"java/lang/NullPointerException", "getExtendedNPEMessage", "()Ljava/lang/String;"⟩, 8), (⟨"java/lang/Throwable", "fillInStackTrace", "(I)Ljava/lang/Throwable;"⟩, 6), (⟨"PointAtWhoIsLost", "no", "(I)I"⟩, 8), (⟨"PointAtWhoIsLost", "rowIn", "(I)Ljava/lang/Object;"⟩, 8), (⟨"PointAtWhoIsLost", "armOf", "(LPointAtWhoIsLost$Post;)I"⟩, 8), (⟨"PointAtWhoIsLost$Reader", "next", "()V"⟩, 7), (⟨"PointAtWhoIsLost$Reader", "isIn", "(II)Z"⟩, 7), (⟨"PointAtWhoIsLost$Reader", "item", "()V"⟩, 7), (⟨"PointAtWhoIsLost$Reader", "wrong", "()LPointAtWhoIsLost$Fault;"⟩, 7), (⟨"PointAtWhoIsLost$Reader", "number", "(II)I"⟩, 7), (⟨"PointAtWhoIsLost$Reader", "need", "(Z)V"⟩, 7), (⟨"PointAtWhoIsLost$Reader", "cell", "(Z)I"⟩, 7), (⟨"PointAtWhoIsLost$Reader", "takes", "(Ljava/lang/String;)Z"⟩, 7), (⟨"PointAtWhoIsLost", "becomes", "(LPointAtWhoIsLost$Fen;)V"⟩, 8), (⟨"PointAtWhoIsLost", "armAt", "(LPointAtWhoIsLost$Post;I)I"⟩, 8), (⟨"PointAtWhoIsLost", "pairsIn", "(ZII)[J"⟩, 8)]
theorem lw_r1 : ∀ q ∈ lw_privs_1, lw_okq q := List.forall_mem_cons.mpr ⟨lw_p0, List.forall_mem_cons.mpr ⟨lw_p1, List.forall_mem_cons.mpr ⟨lw_p2, List.forall_mem_cons.mpr ⟨lw_p3, List.forall_mem_cons.mpr ⟨lw_p4, List.forall_mem_cons.mpr ⟨lw_p5, List.forall_mem_cons.mpr ⟨lw_p6, List.forall_mem_cons.mpr ⟨lw_p7, List.forall_mem_cons.mpr ⟨lw_p8, List.forall_mem_cons.mpr ⟨lw_p9, List.forall_mem_cons.mpr ⟨lw_p10, List.forall_mem_cons.mpr ⟨lw_p11, List.forall_mem_cons.mpr ⟨lw_p12, List.forall_mem_cons.mpr ⟨lw_p13, List.forall_mem_cons.mpr ⟨lw_p14, List.forall_mem_cons.mpr ⟨lw_p15, fun _ h => absurd h List.not_mem_nil⟩⟩⟩⟩⟩⟩⟩⟩⟩⟩⟩⟩⟩⟩⟩⟩
theorem lw_p16 : lw_okq (⟨"PointAtWhoIsLost", "toldIn", "(ZIII)[J"⟩, 8) := ⟨⟨by decide +kernel, by decide +kernel⟩, lw_t1 (List.mem_of_getElem? (i := 36) rfl), lw_t5 (List.mem_of_getElem? (i := 100) rfl), lw_t5 (List.mem_of_getElem? (i := 101) rfl)⟩
theorem lw_p17 : lw_okq (⟨"PointAtWhoIsLost", "many", "([JI)I"⟩, 8) := ⟨⟨by decide +kernel, by decide +kernel⟩, lw_t1 (List.mem_of_getElem? (i := 36) rfl), lw_t5 (List.mem_of_getElem? (i := 106) rfl), lw_t5 (List.mem_of_getElem? (i := 107) rfl)⟩
theorem lw_p18 : lw_okq (⟨"PointAtWhoIsLost", "fits", "([JII)Z"⟩, 8) := ⟨⟨by decide +kernel, by decide +kernel⟩, lw_t1 (List.mem_of_getElem? (i := 36) rfl), lw_t5 (List.mem_of_getElem? (i := 119) rfl), lw_t5 (List.mem_of_getElem? (i := 120) rfl)⟩
theorem lw_p19 : lw_okq (⟨"PointAtWhoIsLost", "nextOf", "([J)I"⟩, 8) := ⟨⟨by decide +kernel, by decide +kernel⟩, lw_t1 (List.mem_of_getElem? (i := 36) rfl), lw_t5 (List.mem_of_getElem? (i := 127) rfl), lw_t5 (List.mem_of_getElem? (i := 128) rfl)⟩
theorem lw_p20 : lw_okq (⟨"PointAtWhoIsLost", "worstOf", "([JI)I"⟩, 8) := ⟨⟨by decide +kernel, by decide +kernel⟩, lw_t1 (List.mem_of_getElem? (i := 36) rfl), lw_t5 (List.mem_of_getElem? (i := 132) rfl), lw_t5 (List.mem_of_getElem? (i := 133) rfl)⟩
theorem lw_p21 : lw_okq (⟨"PointAtWhoIsLost", "falseOf", "([J)I"⟩, 8) := ⟨⟨by decide +kernel, by decide +kernel⟩, lw_t1 (List.mem_of_getElem? (i := 36) rfl), lw_t5 (List.mem_of_getElem? (i := 138) rfl), lw_t5 (List.mem_of_getElem? (i := 139) rfl)⟩
theorem lw_p22 : lw_okq (⟨"PointAtWhoIsLost", "allPosts", "()I"⟩, 8) := ⟨⟨by decide +kernel, by decide +kernel⟩, lw_t1 (List.mem_of_getElem? (i := 36) rfl), lw_t5 (List.mem_of_getElem? (i := 151) rfl), lw_t5 (List.mem_of_getElem? (i := 152) rfl)⟩
theorem lw_p23 : lw_okq (⟨"PointAtWhoIsLost", "tells", "(ILPointAtWhoIsLost$Post;)V"⟩, 8) := ⟨⟨by decide +kernel, by decide +kernel⟩, lw_t1 (List.mem_of_getElem? (i := 36) rfl), lw_t5 (List.mem_of_getElem? (i := 155) rfl), lw_t5 (List.mem_of_getElem? (i := 156) rfl)⟩
theorem lw_p24 : lw_okq (⟨"PointAtWhoIsLost", "manyAlike", "(I)I"⟩, 8) := ⟨⟨by decide +kernel, by decide +kernel⟩, lw_t1 (List.mem_of_getElem? (i := 36) rfl), lw_t5 (List.mem_of_getElem? (i := 161) rfl), lw_t5 (List.mem_of_getElem? (i := 162) rfl)⟩
theorem lw_p25 : lw_okq (⟨"PointAtWhoIsLost", "groups", "(ILPointAtWhoIsLost$Post;)I"⟩, 8) := ⟨⟨by decide +kernel, by decide +kernel⟩, lw_t1 (List.mem_of_getElem? (i := 36) rfl), lw_t5 (List.mem_of_getElem? (i := 181) rfl), lw_t5 (List.mem_of_getElem? (i := 182) rfl)⟩
theorem lw_p26 : lw_okq (⟨"PointAtWhoIsLost", "isFirst", "(I)Z"⟩, 8) := ⟨⟨by decide +kernel, by decide +kernel⟩, lw_t1 (List.mem_of_getElem? (i := 36) rfl), lw_t5 (List.mem_of_getElem? (i := 185) rfl), lw_t5 (List.mem_of_getElem? (i := 186) rfl)⟩
theorem lw_p27 : lw_okq (⟨"PointAtWhoIsLost", "greatest", "()I"⟩, 8) := ⟨⟨by decide +kernel, by decide +kernel⟩, lw_t1 (List.mem_of_getElem? (i := 36) rfl), lw_t5 (List.mem_of_getElem? (i := 202) rfl), lw_t5 (List.mem_of_getElem? (i := 203) rfl)⟩
theorem lw_p28 : lw_okq (⟨"PointAtWhoIsLost", "blind", "()I"⟩, 8) := ⟨⟨by decide +kernel, by decide +kernel⟩, lw_t1 (List.mem_of_getElem? (i := 36) rfl), lw_t5 (List.mem_of_getElem? (i := 206) rfl), lw_t5 (List.mem_of_getElem? (i := 207) rfl)⟩
theorem lw_p29 : lw_okq (⟨"PointAtWhoIsLost", "longest", "(I)I"⟩, 8) := ⟨⟨by decide +kernel, by decide +kernel⟩, lw_t1 (List.mem_of_getElem? (i := 36) rfl), lw_t6 (List.mem_of_getElem? (i := 18) rfl), lw_t6 (List.mem_of_getElem? (i := 19) rfl)⟩
theorem lw_p30 : lw_okq (⟨"PointAtWhoIsLost", "wrongIn", "([JI)I"⟩, 8) := ⟨⟨by decide +kernel, by decide +kernel⟩, lw_t1 (List.mem_of_getElem? (i := 36) rfl), lw_t6 (List.mem_of_getElem? (i := 26) rfl), lw_t6 (List.mem_of_getElem? (i := 27) rfl)⟩
theorem lw_p31 : lw_okq (⟨"PointAtWhoIsLost", "walkIn", "(III)[J"⟩, 8) := ⟨⟨by decide +kernel, by decide +kernel⟩, lw_t1 (List.mem_of_getElem? (i := 36) rfl), lw_t6 (List.mem_of_getElem? (i := 35) rfl), lw_t6 (List.mem_of_getElem? (i := 36) rfl)⟩
def lw_privs_2 : List (MethodName × Nat) := [(⟨"PointAtWhoIsLost", "toldIn", "(ZIII)[J"⟩, 8), (⟨"PointAtWhoIsLost", "many", "([JI)I"⟩, 8), (⟨"PointAtWhoIsLost", "fits", "([JII)Z"⟩, 8), (⟨"PointAtWhoIsLost", "nextOf", "([J)I"⟩, 8), (⟨"PointAtWhoIsLost", "worstOf", "([JI)I"⟩, 8), (⟨"PointAtWhoIsLost", "falseOf", "([J)I"⟩, 8), (⟨"PointAtWhoIsLost", "allPosts", "()I"⟩, 8), (⟨"PointAtWhoIsLost", "tells", "(ILPointAtWhoIsLost$Post;)V"⟩, 8), (⟨"PointAtWhoIsLost", "manyAlike", "(I)I"⟩, 8), (⟨"PointAtWhoIsLost", "groups", "(ILPointAtWhoIsLost$Post;)I"⟩, 8), (⟨"PointAtWhoIsLost", "isFirst", "(I)Z"⟩, 8), (⟨"PointAtWhoIsLost", "greatest", "()I"⟩, 8), (⟨"PointAtWhoIsLost", "blind", "()I"⟩, 8), (⟨"PointAtWhoIsLost", "longest", "(I)I"⟩, 8), (⟨"PointAtWhoIsLost", "wrongIn", "([JI)I"⟩, 8), (⟨"PointAtWhoIsLost", "walkIn", "(III)[J"⟩, 8)]
theorem lw_r2 : ∀ q ∈ lw_privs_2, lw_okq q := List.forall_mem_cons.mpr ⟨lw_p16, List.forall_mem_cons.mpr ⟨lw_p17, List.forall_mem_cons.mpr ⟨lw_p18, List.forall_mem_cons.mpr ⟨lw_p19, List.forall_mem_cons.mpr ⟨lw_p20, List.forall_mem_cons.mpr ⟨lw_p21, List.forall_mem_cons.mpr ⟨lw_p22, List.forall_mem_cons.mpr ⟨lw_p23, List.forall_mem_cons.mpr ⟨lw_p24, List.forall_mem_cons.mpr ⟨lw_p25, List.forall_mem_cons.mpr ⟨lw_p26, List.forall_mem_cons.mpr ⟨lw_p27, List.forall_mem_cons.mpr ⟨lw_p28, List.forall_mem_cons.mpr ⟨lw_p29, List.forall_mem_cons.mpr ⟨lw_p30, List.forall_mem_cons.mpr ⟨lw_p31, fun _ h => absurd h List.not_mem_nil⟩⟩⟩⟩⟩⟩⟩⟩⟩⟩⟩⟩⟩⟩⟩⟩
theorem lw_p32 : lw_okq (⟨"PointAtWhoIsLost$Fen", "homeward", "(I)V"⟩, 11) := ⟨⟨by decide +kernel, by decide +kernel⟩, lw_t1 (List.mem_of_getElem? (i := 44) rfl), lw_t6 (List.mem_of_getElem? (i := 66) rfl), lw_t6 (List.mem_of_getElem? (i := 67) rfl)⟩
theorem lw_p33 : lw_okq (⟨"PointAtWhoIsLost", "manyLost", "()I"⟩, 8) := ⟨⟨by decide +kernel, by decide +kernel⟩, lw_t1 (List.mem_of_getElem? (i := 36) rfl), lw_t6 (List.mem_of_getElem? (i := 70) rfl), lw_t6 (List.mem_of_getElem? (i := 71) rfl)⟩
theorem lw_p34 : lw_okq (⟨"PointAtWhoIsLost", "shelved", "()I"⟩, 8) := ⟨⟨by decide +kernel, by decide +kernel⟩, lw_t1 (List.mem_of_getElem? (i := 36) rfl), lw_t6 (List.mem_of_getElem? (i := 95) rfl), lw_t6 (List.mem_of_getElem? (i := 96) rfl)⟩
theorem lw_p35 : lw_okq (⟨"PointAtWhoIsLostModel", "no", "(I)I"⟩, 28) := ⟨⟨by decide +kernel, by decide +kernel⟩, lw_t6 (List.mem_of_getElem? (i := 99) rfl), lw_t6 (List.mem_of_getElem? (i := 200) rfl), lw_t6 (List.mem_of_getElem? (i := 201) rfl)⟩
theorem lw_p36 : lw_okq (⟨"PointAtWhoIsLostModel", "isRow", "(I)Z"⟩, 28) := ⟨⟨by decide +kernel, by decide +kernel⟩, lw_t6 (List.mem_of_getElem? (i := 99) rfl), lw_t6 (List.mem_of_getElem? (i := 208) rfl), lw_t6 (List.mem_of_getElem? (i := 209) rfl)⟩
theorem lw_p37 : lw_okq (⟨"PointAtWhoIsLostModel", "noRow", "(I)I"⟩, 28) := ⟨⟨by decide +kernel, by decide +kernel⟩, lw_t6 (List.mem_of_getElem? (i := 99) rfl), lw_t6 (List.mem_of_getElem? (i := 212) rfl), lw_t6 (List.mem_of_getElem? (i := 213) rfl)⟩
theorem lw_p38 : lw_okq (⟨"PointAtWhoIsLostModel", "isPost", "(J)Z"⟩, 28) := ⟨⟨by decide +kernel, by decide +kernel⟩, lw_t6 (List.mem_of_getElem? (i := 99) rfl), lw_t6 (List.mem_of_getElem? (i := 235) rfl), lw_t6 (List.mem_of_getElem? (i := 236) rfl)⟩
theorem lw_p39 : lw_okq (⟨"PointAtWhoIsLostModel", "asThingsAre", "()V"⟩, 28) := ⟨⟨by decide +kernel, by decide +kernel⟩, lw_t6 (List.mem_of_getElem? (i := 99) rfl), lw_t7 (List.mem_of_getElem? (i := 6) rfl), lw_t7 (List.mem_of_getElem? (i := 7) rfl)⟩
theorem lw_p40 : lw_okq (⟨"PointAtWhoIsLostModel", "isLost", "(I)Z"⟩, 28) := ⟨⟨by decide +kernel, by decide +kernel⟩, lw_t6 (List.mem_of_getElem? (i := 99) rfl), lw_t7 (List.mem_of_getElem? (i := 10) rfl), lw_t7 (List.mem_of_getElem? (i := 11) rfl)⟩
theorem lw_p41 : lw_okq (⟨"PointAtWhoIsLostModel", "armOf", "(I)I"⟩, 28) := ⟨⟨by decide +kernel, by decide +kernel⟩, lw_t6 (List.mem_of_getElem? (i := 99) rfl), lw_t7 (List.mem_of_getElem? (i := 14) rfl), lw_t7 (List.mem_of_getElem? (i := 15) rfl)⟩
theorem lw_p42 : lw_okq (⟨"PointAtWhoIsLostModel", "keenArm", "(I)I"⟩, 28) := ⟨⟨by decide +kernel, by decide +kernel⟩, lw_t6 (List.mem_of_getElem? (i := 99) rfl), lw_t7 (List.mem_of_getElem? (i := 18) rfl), lw_t7 (List.mem_of_getElem? (i := 19) rfl)⟩
theorem lw_p43 : lw_okq (⟨"PointAtWhoIsLostModel", "lazyArm", "(I)I"⟩, 28) := ⟨⟨by decide +kernel, by decide +kernel⟩, lw_t6 (List.mem_of_getElem? (i := 99) rfl), lw_t7 (List.mem_of_getElem? (i := 32) rfl), lw_t7 (List.mem_of_getElem? (i := 33) rfl)⟩
theorem lw_p44 : lw_okq (⟨"PointAtWhoIsLostModel", "plainArm", "(I)I"⟩, 28) := ⟨⟨by decide +kernel, by decide +kernel⟩, lw_t6 (List.mem_of_getElem? (i := 99) rfl), lw_t7 (List.mem_of_getElem? (i := 36) rfl), lw_t7 (List.mem_of_getElem? (i := 37) rfl)⟩
theorem lw_p45 : lw_okq (⟨"PointAtWhoIsLostModel", "tornArm", "(I)I"⟩, 28) := ⟨⟨by decide +kernel, by decide +kernel⟩, lw_t6 (List.mem_of_getElem? (i := 99) rfl), lw_t7 (List.mem_of_getElem? (i := 43) rfl), lw_t7 (List.mem_of_getElem? (i := 44) rfl)⟩
theorem lw_p46 : lw_okq (⟨"PointAtWhoIsLostModel", "isCell", "(J)Z"⟩, 28) := ⟨⟨by decide +kernel, by decide +kernel⟩, lw_t6 (List.mem_of_getElem? (i := 99) rfl), lw_t7 (List.mem_of_getElem? (i := 55) rfl), lw_t7 (List.mem_of_getElem? (i := 56) rfl)⟩
theorem lw_p47 : lw_okq (⟨"PointAtWhoIsLostModel", "isWalkerAt", "(I)Z"⟩, 28) := ⟨⟨by decide +kernel, by decide +kernel⟩, lw_t6 (List.mem_of_getElem? (i := 99) rfl), lw_t7 (List.mem_of_getElem? (i := 60) rfl), lw_t7 (List.mem_of_getElem? (i := 61) rfl)⟩
def lw_privs_3 : List (MethodName × Nat) := [(⟨"PointAtWhoIsLost$Fen", "homeward", "(I)V"⟩, 11), (⟨"PointAtWhoIsLost", "manyLost", "()I"⟩, 8), (⟨"PointAtWhoIsLost", "shelved", "()I"⟩, 8), (⟨"PointAtWhoIsLostModel", "no", "(I)I"⟩, 28), (⟨"PointAtWhoIsLostModel", "isRow", "(I)Z"⟩, 28), (⟨"PointAtWhoIsLostModel", "noRow", "(I)I"⟩, 28), (⟨"PointAtWhoIsLostModel", "isPost", "(J)Z"⟩, 28), (⟨"PointAtWhoIsLostModel", "asThingsAre", "()V"⟩, 28), (⟨"PointAtWhoIsLostModel", "isLost", "(I)Z"⟩, 28), (⟨"PointAtWhoIsLostModel", "armOf", "(I)I"⟩, 28), (⟨"PointAtWhoIsLostModel", "keenArm", "(I)I"⟩, 28), (⟨"PointAtWhoIsLostModel", "lazyArm", "(I)I"⟩, 28), (⟨"PointAtWhoIsLostModel", "plainArm", "(I)I"⟩, 28), (⟨"PointAtWhoIsLostModel", "tornArm", "(I)I"⟩, 28), (⟨"PointAtWhoIsLostModel", "isCell", "(J)Z"⟩, 28), (⟨"PointAtWhoIsLostModel", "isWalkerAt", "(I)Z"⟩, 28)]
theorem lw_r3 : ∀ q ∈ lw_privs_3, lw_okq q := List.forall_mem_cons.mpr ⟨lw_p32, List.forall_mem_cons.mpr ⟨lw_p33, List.forall_mem_cons.mpr ⟨lw_p34, List.forall_mem_cons.mpr ⟨lw_p35, List.forall_mem_cons.mpr ⟨lw_p36, List.forall_mem_cons.mpr ⟨lw_p37, List.forall_mem_cons.mpr ⟨lw_p38, List.forall_mem_cons.mpr ⟨lw_p39, List.forall_mem_cons.mpr ⟨lw_p40, List.forall_mem_cons.mpr ⟨lw_p41, List.forall_mem_cons.mpr ⟨lw_p42, List.forall_mem_cons.mpr ⟨lw_p43, List.forall_mem_cons.mpr ⟨lw_p44, List.forall_mem_cons.mpr ⟨lw_p45, List.forall_mem_cons.mpr ⟨lw_p46, List.forall_mem_cons.mpr ⟨lw_p47, fun _ h => absurd h List.not_mem_nil⟩⟩⟩⟩⟩⟩⟩⟩⟩⟩⟩⟩⟩⟩⟩⟩
theorem lw_p48 : lw_okq (⟨"PointAtWhoIsLostModel", "newPost", "(III)I"⟩, 28) := ⟨⟨by decide +kernel, by decide +kernel⟩, lw_t6 (List.mem_of_getElem? (i := 99) rfl), lw_t7 (List.mem_of_getElem? (i := 72) rfl), lw_t7 (List.mem_of_getElem? (i := 73) rfl)⟩
theorem lw_p49 : lw_okq (⟨"PointAtWhoIsLostModel", "newWalker", "(II)I"⟩, 28) := ⟨⟨by decide +kernel, by decide +kernel⟩, lw_t6 (List.mem_of_getElem? (i := 99) rfl), lw_t7 (List.mem_of_getElem? (i := 80) rfl), lw_t7 (List.mem_of_getElem? (i := 81) rfl)⟩
theorem lw_p50 : lw_okq (⟨"PointAtWhoIsLostModel", "isWalker", "(I)Z"⟩, 28) := ⟨⟨by decide +kernel, by decide +kernel⟩, lw_t6 (List.mem_of_getElem? (i := 99) rfl), lw_t7 (List.mem_of_getElem? (i := 88) rfl), lw_t7 (List.mem_of_getElem? (i := 89) rfl)⟩
theorem lw_p51 : lw_okq (⟨"PointAtWhoIsLostModel", "keep", "([I)V"⟩, 28) := ⟨⟨by decide +kernel, by decide +kernel⟩, lw_t6 (List.mem_of_getElem? (i := 99) rfl), lw_t7 (List.mem_of_getElem? (i := 104) rfl), lw_t7 (List.mem_of_getElem? (i := 105) rfl)⟩
theorem lw_p52 : lw_okq (⟨"PointAtWhoIsLostModel", "next", "()V"⟩, 28) := ⟨⟨by decide +kernel, by decide +kernel⟩, lw_t6 (List.mem_of_getElem? (i := 99) rfl), lw_t7 (List.mem_of_getElem? (i := 108) rfl), lw_t7 (List.mem_of_getElem? (i := 109) rfl)⟩
theorem lw_p53 : lw_okq (⟨"PointAtWhoIsLostModel", "statement", "()Z"⟩, 28) := ⟨⟨by decide +kernel, by decide +kernel⟩, lw_t6 (List.mem_of_getElem? (i := 99) rfl), lw_t7 (List.mem_of_getElem? (i := 118) rfl), lw_t7 (List.mem_of_getElem? (i := 119) rfl)⟩
theorem lw_p54 : lw_okq (⟨"PointAtWhoIsLostModel", "isWord", "(Ljava/lang/String;)Z"⟩, 28) := ⟨⟨by decide +kernel, by decide +kernel⟩, lw_t6 (List.mem_of_getElem? (i := 99) rfl), lw_t7 (List.mem_of_getElem? (i := 123) rfl), lw_t7 (List.mem_of_getElem? (i := 124) rfl)⟩
theorem lw_p55 : lw_okq (⟨"PointAtWhoIsLostModel", "number", "(II)I"⟩, 28) := ⟨⟨by decide +kernel, by decide +kernel⟩, lw_t6 (List.mem_of_getElem? (i := 99) rfl), lw_t7 (List.mem_of_getElem? (i := 146) rfl), lw_t7 (List.mem_of_getElem? (i := 147) rfl)⟩
theorem lw_p56 : lw_okq (⟨"PointAtWhoIsLostModel", "place", "()I"⟩, 28) := ⟨⟨by decide +kernel, by decide +kernel⟩, lw_t6 (List.mem_of_getElem? (i := 99) rfl), lw_t7 (List.mem_of_getElem? (i := 151) rfl), lw_t7 (List.mem_of_getElem? (i := 152) rfl)⟩
theorem lw_p57 : lw_okq (⟨"PointAtWhoIsLostModel", "again", "([I)V"⟩, 28) := ⟨⟨by decide +kernel, by decide +kernel⟩, lw_t6 (List.mem_of_getElem? (i := 99) rfl), lw_t7 (List.mem_of_getElem? (i := 159) rfl), lw_t7 (List.mem_of_getElem? (i := 160) rfl)⟩
theorem lw_p58 : lw_okq (⟨"PointAtWhoIsLostModel", "pathOf", "(II)I"⟩, 28) := ⟨⟨by decide +kernel, by decide +kernel⟩, lw_t6 (List.mem_of_getElem? (i := 99) rfl), lw_t7 (List.mem_of_getElem? (i := 171) rfl), lw_t7 (List.mem_of_getElem? (i := 172) rfl)⟩
theorem lw_p59 : lw_okq (⟨"PointAtWhoIsLostModel", "walks", "(I)V"⟩, 28) := ⟨⟨by decide +kernel, by decide +kernel⟩, lw_t6 (List.mem_of_getElem? (i := 99) rfl), lw_t7 (List.mem_of_getElem? (i := 175) rfl), lw_t7 (List.mem_of_getElem? (i := 176) rfl)⟩
theorem lw_p60 : lw_okq (⟨"PointAtWhoIsLostModel", "can", "(II)Z"⟩, 28) := ⟨⟨by decide +kernel, by decide +kernel⟩, lw_t6 (List.mem_of_getElem? (i := 99) rfl), lw_t7 (List.mem_of_getElem? (i := 179) rfl), lw_t7 (List.mem_of_getElem? (i := 180) rfl)⟩
theorem lw_p61 : lw_okq (⟨"PointAtWhoIsLostModel", "beside", "(II)I"⟩, 28) := ⟨⟨by decide +kernel, by decide +kernel⟩, lw_t6 (List.mem_of_getElem? (i := 99) rfl), lw_t7 (List.mem_of_getElem? (i := 183) rfl), lw_t7 (List.mem_of_getElem? (i := 184) rfl)⟩
theorem lw_p62 : lw_okq (⟨"PointAtWhoIsLostModel", "armFor", "(II)I"⟩, 28) := ⟨⟨by decide +kernel, by decide +kernel⟩, lw_t6 (List.mem_of_getElem? (i := 99) rfl), lw_t7 (List.mem_of_getElem? (i := 199) rfl), lw_t7 (List.mem_of_getElem? (i := 200) rfl)⟩
theorem lw_p63 : lw_okq (⟨"PointAtWhoIsLostModel", "one", "(I)V"⟩, 28) := ⟨⟨by decide +kernel, by decide +kernel⟩, lw_t6 (List.mem_of_getElem? (i := 99) rfl), lw_t7 (List.mem_of_getElem? (i := 203) rfl), lw_t7 (List.mem_of_getElem? (i := 204) rfl)⟩
def lw_privs_4 : List (MethodName × Nat) := [(⟨"PointAtWhoIsLostModel", "newPost", "(III)I"⟩, 28), (⟨"PointAtWhoIsLostModel", "newWalker", "(II)I"⟩, 28), (⟨"PointAtWhoIsLostModel", "isWalker", "(I)Z"⟩, 28), (⟨"PointAtWhoIsLostModel", "keep", "([I)V"⟩, 28), (⟨"PointAtWhoIsLostModel", "next", "()V"⟩, 28), (⟨"PointAtWhoIsLostModel", "statement", "()Z"⟩, 28), (⟨"PointAtWhoIsLostModel", "isWord", "(Ljava/lang/String;)Z"⟩, 28), (⟨"PointAtWhoIsLostModel", "number", "(II)I"⟩, 28), (⟨"PointAtWhoIsLostModel", "place", "()I"⟩, 28), (⟨"PointAtWhoIsLostModel", "again", "([I)V"⟩, 28), (⟨"PointAtWhoIsLostModel", "pathOf", "(II)I"⟩, 28), (⟨"PointAtWhoIsLostModel", "walks", "(I)V"⟩, 28), (⟨"PointAtWhoIsLostModel", "can", "(II)Z"⟩, 28), (⟨"PointAtWhoIsLostModel", "beside", "(II)I"⟩, 28), (⟨"PointAtWhoIsLostModel", "armFor", "(II)I"⟩, 28), (⟨"PointAtWhoIsLostModel", "one", "(I)V"⟩, 28)]
theorem lw_r4 : ∀ q ∈ lw_privs_4, lw_okq q := List.forall_mem_cons.mpr ⟨lw_p48, List.forall_mem_cons.mpr ⟨lw_p49, List.forall_mem_cons.mpr ⟨lw_p50, List.forall_mem_cons.mpr ⟨lw_p51, List.forall_mem_cons.mpr ⟨lw_p52, List.forall_mem_cons.mpr ⟨lw_p53, List.forall_mem_cons.mpr ⟨lw_p54, List.forall_mem_cons.mpr ⟨lw_p55, List.forall_mem_cons.mpr ⟨lw_p56, List.forall_mem_cons.mpr ⟨lw_p57, List.forall_mem_cons.mpr ⟨lw_p58, List.forall_mem_cons.mpr ⟨lw_p59, List.forall_mem_cons.mpr ⟨lw_p60, List.forall_mem_cons.mpr ⟨lw_p61, List.forall_mem_cons.mpr ⟨lw_p62, List.forall_mem_cons.mpr ⟨lw_p63, fun _ h => absurd h List.not_mem_nil⟩⟩⟩⟩⟩⟩⟩⟩⟩⟩⟩⟩⟩⟩⟩⟩
theorem lw_p64 : lw_okq (⟨"PointAtWhoIsLostModel", "noPairs", "(II)I"⟩, 28) := ⟨⟨by decide +kernel, by decide +kernel⟩, lw_t6 (List.mem_of_getElem? (i := 99) rfl), lw_t7 (List.mem_of_getElem? (i := 211) rfl), lw_t7 (List.mem_of_getElem? (i := 212) rfl)⟩
theorem lw_p65 : lw_okq (⟨"PointAtWhoIsLostModel", "noTold", "(II)I"⟩, 28) := ⟨⟨by decide +kernel, by decide +kernel⟩, lw_t6 (List.mem_of_getElem? (i := 99) rfl), lw_t7 (List.mem_of_getElem? (i := 215) rfl), lw_t7 (List.mem_of_getElem? (i := 216) rfl)⟩
theorem lw_p66 : lw_okq (⟨"PointAtWhoIsLostModel", "toldAt", "(II)J"⟩, 28) := ⟨⟨by decide +kernel, by decide +kernel⟩, lw_t6 (List.mem_of_getElem? (i := 99) rfl), lw_t7 (List.mem_of_getElem? (i := 219) rfl), lw_t7 (List.mem_of_getElem? (i := 220) rfl)⟩
theorem lw_p67 : lw_okq (⟨"PointAtWhoIsLostModel", "fitting", "(III)I"⟩, 28) := ⟨⟨by decide +kernel, by decide +kernel⟩, lw_t6 (List.mem_of_getElem? (i := 99) rfl), lw_t7 (List.mem_of_getElem? (i := 225) rfl), lw_t7 (List.mem_of_getElem? (i := 226) rfl)⟩
theorem lw_p68 : lw_okq (⟨"PointAtWhoIsLostModel", "fits", "(IIII)Z"⟩, 28) := ⟨⟨by decide +kernel, by decide +kernel⟩, lw_t6 (List.mem_of_getElem? (i := 99) rfl), lw_t7 (List.mem_of_getElem? (i := 229) rfl), lw_t7 (List.mem_of_getElem? (i := 230) rfl)⟩
theorem lw_p69 : lw_okq (⟨"PointAtWhoIsLostModel", "isDry", "(I)Z"⟩, 28) := ⟨⟨by decide +kernel, by decide +kernel⟩, lw_t6 (List.mem_of_getElem? (i := 99) rfl), lw_t7 (List.mem_of_getElem? (i := 233) rfl), lw_t7 (List.mem_of_getElem? (i := 234) rfl)⟩
theorem lw_p70 : lw_okq (⟨"PointAtWhoIsLostModel", "asked", "(II)I"⟩, 28) := ⟨⟨by decide +kernel, by decide +kernel⟩, lw_t6 (List.mem_of_getElem? (i := 99) rfl), lw_t8 (List.mem_of_getElem? (i := 1) rfl), lw_t8 (List.mem_of_getElem? (i := 2) rfl)⟩
theorem lw_p71 : lw_okq (⟨"PointAtWhoIsLostModel", "worstOf", "(III)I"⟩, 28) := ⟨⟨by decide +kernel, by decide +kernel⟩, lw_t6 (List.mem_of_getElem? (i := 99) rfl), lw_t8 (List.mem_of_getElem? (i := 5) rfl), lw_t8 (List.mem_of_getElem? (i := 6) rfl)⟩
theorem lw_p72 : lw_okq (⟨"PointAtWhoIsLostModel", "liar", "(II)I"⟩, 28) := ⟨⟨by decide +kernel, by decide +kernel⟩, lw_t6 (List.mem_of_getElem? (i := 99) rfl), lw_t8 (List.mem_of_getElem? (i := 10) rfl), lw_t8 (List.mem_of_getElem? (i := 11) rfl)⟩
theorem lw_p73 : lw_okq (⟨"PointAtWhoIsLostModel", "blind", "()I"⟩, 28) := ⟨⟨by decide +kernel, by decide +kernel⟩, lw_t6 (List.mem_of_getElem? (i := 99) rfl), lw_t8 (List.mem_of_getElem? (i := 22) rfl), lw_t8 (List.mem_of_getElem? (i := 23) rfl)⟩
theorem lw_p74 : lw_okq (⟨"PointAtWhoIsLostModel", "allPosts", "()I"⟩, 28) := ⟨⟨by decide +kernel, by decide +kernel⟩, lw_t6 (List.mem_of_getElem? (i := 99) rfl), lw_t8 (List.mem_of_getElem? (i := 26) rfl), lw_t8 (List.mem_of_getElem? (i := 27) rfl)⟩
theorem lw_p75 : lw_okq (⟨"PointAtWhoIsLostModel", "groups", "(I)I"⟩, 28) := ⟨⟨by decide +kernel, by decide +kernel⟩, lw_t6 (List.mem_of_getElem? (i := 99) rfl), lw_t8 (List.mem_of_getElem? (i := 30) rfl), lw_t8 (List.mem_of_getElem? (i := 31) rfl)⟩
theorem lw_p76 : lw_okq (⟨"PointAtWhoIsLostModel", "isAlike", "(III)Z"⟩, 28) := ⟨⟨by decide +kernel, by decide +kernel⟩, lw_t6 (List.mem_of_getElem? (i := 99) rfl), lw_t8 (List.mem_of_getElem? (i := 34) rfl), lw_t8 (List.mem_of_getElem? (i := 35) rfl)⟩
theorem lw_p77 : lw_okq (⟨"PointAtWhoIsLostModel", "sizeOf", "(I)I"⟩, 28) := ⟨⟨by decide +kernel, by decide +kernel⟩, lw_t6 (List.mem_of_getElem? (i := 99) rfl), lw_t8 (List.mem_of_getElem? (i := 38) rfl), lw_t8 (List.mem_of_getElem? (i := 39) rfl)⟩
theorem lw_p78 : lw_okq (⟨"PointAtWhoIsLostModel", "commandTo", "(II)I"⟩, 28) := ⟨⟨by decide +kernel, by decide +kernel⟩, lw_t6 (List.mem_of_getElem? (i := 99) rfl), lw_t8 (List.mem_of_getElem? (i := 83) rfl), lw_t8 (List.mem_of_getElem? (i := 84) rfl)⟩
theorem lw_p79 : lw_okq (⟨"PointAtWhoIsLostModel", "out", "(I)I"⟩, 28) := ⟨⟨by decide +kernel, by decide +kernel⟩, lw_t6 (List.mem_of_getElem? (i := 99) rfl), lw_t8 (List.mem_of_getElem? (i := 103) rfl), lw_t8 (List.mem_of_getElem? (i := 104) rfl)⟩
def lw_privs_5 : List (MethodName × Nat) := [(⟨"PointAtWhoIsLostModel", "noPairs", "(II)I"⟩, 28), (⟨"PointAtWhoIsLostModel", "noTold", "(II)I"⟩, 28), (⟨"PointAtWhoIsLostModel", "toldAt", "(II)J"⟩, 28), (⟨"PointAtWhoIsLostModel", "fitting", "(III)I"⟩, 28), (⟨"PointAtWhoIsLostModel", "fits", "(IIII)Z"⟩, 28), (⟨"PointAtWhoIsLostModel", "isDry", "(I)Z"⟩, 28), (⟨"PointAtWhoIsLostModel", "asked", "(II)I"⟩, 28), (⟨"PointAtWhoIsLostModel", "worstOf", "(III)I"⟩, 28), (⟨"PointAtWhoIsLostModel", "liar", "(II)I"⟩, 28), (⟨"PointAtWhoIsLostModel", "blind", "()I"⟩, 28), (⟨"PointAtWhoIsLostModel", "allPosts", "()I"⟩, 28), (⟨"PointAtWhoIsLostModel", "groups", "(I)I"⟩, 28), (⟨"PointAtWhoIsLostModel", "isAlike", "(III)Z"⟩, 28), (⟨"PointAtWhoIsLostModel", "sizeOf", "(I)I"⟩, 28), (⟨"PointAtWhoIsLostModel", "commandTo", "(II)I"⟩, 28), (⟨"PointAtWhoIsLostModel", "out", "(I)I"⟩, 28)]
theorem lw_r5 : ∀ q ∈ lw_privs_5, lw_okq q := List.forall_mem_cons.mpr ⟨lw_p64, List.forall_mem_cons.mpr ⟨lw_p65, List.forall_mem_cons.mpr ⟨lw_p66, List.forall_mem_cons.mpr ⟨lw_p67, List.forall_mem_cons.mpr ⟨lw_p68, List.forall_mem_cons.mpr ⟨lw_p69, List.forall_mem_cons.mpr ⟨lw_p70, List.forall_mem_cons.mpr ⟨lw_p71, List.forall_mem_cons.mpr ⟨lw_p72, List.forall_mem_cons.mpr ⟨lw_p73, List.forall_mem_cons.mpr ⟨lw_p74, List.forall_mem_cons.mpr ⟨lw_p75, List.forall_mem_cons.mpr ⟨lw_p76, List.forall_mem_cons.mpr ⟨lw_p77, List.forall_mem_cons.mpr ⟨lw_p78, List.forall_mem_cons.mpr ⟨lw_p79, fun _ h => absurd h List.not_mem_nil⟩⟩⟩⟩⟩⟩⟩⟩⟩⟩⟩⟩⟩⟩⟩⟩
theorem lw_p80 : lw_okq (⟨"PointAtWhoIsLostModel", "wrong", "(III)I"⟩, 28) := ⟨⟨by decide +kernel, by decide +kernel⟩, lw_t6 (List.mem_of_getElem? (i := 99) rfl), lw_t8 (List.mem_of_getElem? (i := 123) rfl), lw_t8 (List.mem_of_getElem? (i := 124) rfl)⟩
theorem lw_p81 : lw_okq (⟨"PointAtWhoIsLostModel", "noWalk", "(III)I"⟩, 28) := ⟨⟨by decide +kernel, by decide +kernel⟩, lw_t6 (List.mem_of_getElem? (i := 99) rfl), lw_t8 (List.mem_of_getElem? (i := 131) rfl), lw_t8 (List.mem_of_getElem? (i := 132) rfl)⟩
theorem lw_p82 : lw_okq (⟨"PointAtWhoIsLostModel", "goesBy", "(II)I"⟩, 28) := ⟨⟨by decide +kernel, by decide +kernel⟩, lw_t6 (List.mem_of_getElem? (i := 99) rfl), lw_t8 (List.mem_of_getElem? (i := 143) rfl), lw_t8 (List.mem_of_getElem? (i := 144) rfl)⟩
theorem lw_p83 : lw_okq (⟨"PointAtWhoIsLostModel", "day", "()V"⟩, 28) := ⟨⟨by decide +kernel, by decide +kernel⟩, lw_t6 (List.mem_of_getElem? (i := 99) rfl), lw_t8 (List.mem_of_getElem? (i := 151) rfl), lw_t8 (List.mem_of_getElem? (i := 152) rfl)⟩
theorem lw_p84 : lw_okq (⟨"PointAtWhoIsLostModel", "draw", "(I)I"⟩, 28) := ⟨⟨by decide +kernel, by decide +kernel⟩, lw_t6 (List.mem_of_getElem? (i := 99) rfl), lw_t8 (List.mem_of_getElem? (i := 155) rfl), lw_t8 (List.mem_of_getElem? (i := 156) rfl)⟩
theorem lw_p85 : lw_okq (⟨"PointAtWhoIsLostModel", "sureOnes", "()I"⟩, 28) := ⟨⟨by decide +kernel, by decide +kernel⟩, lw_t6 (List.mem_of_getElem? (i := 99) rfl), lw_t8 (List.mem_of_getElem? (i := 160) rfl), lw_t8 (List.mem_of_getElem? (i := 161) rfl)⟩
def lw_privs_6 : List (MethodName × Nat) := [(⟨"PointAtWhoIsLostModel", "wrong", "(III)I"⟩, 28), (⟨"PointAtWhoIsLostModel", "noWalk", "(III)I"⟩, 28), (⟨"PointAtWhoIsLostModel", "goesBy", "(II)I"⟩, 28), (⟨"PointAtWhoIsLostModel", "day", "()V"⟩, 28), (⟨"PointAtWhoIsLostModel", "draw", "(I)I"⟩, 28), (⟨"PointAtWhoIsLostModel", "sureOnes", "()I"⟩, 28)]
theorem lw_r6 : ∀ q ∈ lw_privs_6, lw_okq q := List.forall_mem_cons.mpr ⟨lw_p80, List.forall_mem_cons.mpr ⟨lw_p81, List.forall_mem_cons.mpr ⟨lw_p82, List.forall_mem_cons.mpr ⟨lw_p83, List.forall_mem_cons.mpr ⟨lw_p84, List.forall_mem_cons.mpr ⟨lw_p85, fun _ h => absurd h List.not_mem_nil⟩⟩⟩⟩⟩⟩
def lw_privs : List (MethodName × Nat) := lw_privs_1 ++ (lw_privs_2 ++ (lw_privs_3 ++ (lw_privs_4 ++ (lw_privs_5 ++ (lw_privs_6)))))
def lw_tbl : List Cond := k2_sels lw_privs ++ tables_1
theorem lw_privs_ok : ∀ q ∈ lw_privs, lw_okq q := by
  show ∀ q ∈ lw_privs_1 ++ (lw_privs_2 ++ (lw_privs_3 ++ (lw_privs_4 ++ (lw_privs_5 ++ (lw_privs_6))))), lw_okq q
  exact List.forall_mem_append.mpr ⟨lw_r1, List.forall_mem_append.mpr ⟨lw_r2, List.forall_mem_append.mpr ⟨lw_r3, List.forall_mem_append.mpr ⟨lw_r4, List.forall_mem_append.mpr ⟨lw_r5, lw_r6⟩⟩⟩⟩⟩
-- ===== ONE list of words for every method: the tables' words that hold all through a run =====
def lw_all : List Cond := lw_tbl.filter goodWord
/-- a word of the tables by its place: claim/WORDS.tsv -/
theorem lw_w {w : Cond} (i : Nat) (h : lw_tbl[i]? = some w) (g : goodWord w = true) : w ∈ lw_all := List.mem_filter.mpr ⟨List.mem_of_getElem? h, g⟩
theorem lw_all_tbl {w : Cond} (h : w ∈ lw_all) : w ∈ lw_tbl := (List.mem_filter.mp h).1
theorem lw_self : GoodIn lw_all lw_all := fun w h => ⟨h, good_of_word (List.mem_filter.mp h).2⟩
/-- a class's field words, by their places -/
theorem lw_in (ws : List Cond) (ps : List Nat) (hp : ws = ps.filterMap (fun i => lw_tbl[i]?)) (hg : ws.all goodWord = true) : ∀ w ∈ ws, w ∈ lw_all := by
  intro w h
  have h1 := List.all_eq_true.mp hg w h
  rw [hp] at h
  obtain ⟨i, -, hi⟩ := List.mem_filterMap.mp h
  exact lw_w i hi h1
/-- the words of a contract for the method y with code b, L locals, answer r -/
abbrev ws_ (y : MethodName) (b : ByteArray) (L : Nat) (r : Option FieldType) : List Cond := Cond.code y b L r :: lw_all
theorem lw_meth {y : MethodName} {b : ByteArray} {L : Nat} {r : Option FieldType} (h : Cond.code y b L r ∈ lw_all) : GoodIn lw_all (ws_ y b L r) := by
  intro w hw
  rcases List.mem_cons.mp hw with e | e
  · rw [e]
    exact lw_self _ h
  · exact lw_self _ e
theorem lw_app {a c : List Cond} (ha : ∀ w ∈ a, w ∈ lw_all) (hc : GoodIn lw_all c) : GoodIn lw_all (a ++ c) := by
  intro w hw
  rcases List.mem_append.mp hw with e | e
  · exact lw_self w (ha w e)
  · exact hc w e
/-- what a call through an object asks: cwV n hts (lw_V ..) -/
theorem lw_V {own : String} {idx : Nat} {C : String} {y : MethodName} {b : ByteArray} {L : Nat} {r : Option FieldType} (h1 : Cond.methodLink own idx y ∈ lw_all) (h2 : Cond.instanceMethod y ∈ lw_all) (h3 : Cond.selects C y y ∈ lw_all) (h4 : Cond.initialized C ∈ lw_all) (h5 : Cond.code y b L r ∈ lw_all) : GoodIn lw_all (wsV own idx C y (ws_ y b L r)) := by
  refine lw_app ?_ (lw_meth h5)
  intro w hw
  simp only [List.mem_cons, List.not_mem_nil, or_false] at hw
  rcases hw with e | e | e | e
  · rw [e]; exact h1
  · rw [e]; exact h2
  · rw [e]; exact h3
  · rw [e]; exact h4
/-- what a static call asks: va_cwS n hts (lw_S ..) -/
theorem lw_S {own : String} {idx : Nat} {y : MethodName} {b : ByteArray} {L : Nat} {r : Option FieldType} (h1 : Cond.methodLink own idx y ∈ lw_all) (h2 : Cond.static y ∈ lw_all) (h3 : Cond.initialized y.cls ∈ lw_all) (h4 : Cond.code y b L r ∈ lw_all) : GoodIn lw_all (va_wsS own idx y (ws_ y b L r)) := by
  refine lw_app ?_ (lw_meth h4)
  intro w hw
  simp only [List.mem_cons, List.not_mem_nil, or_false] at hw
  rcases hw with e | e | e
  · rw [e]; exact h1
  · rw [e]; exact h2
  · rw [e]; exact h3
/-- the words of a contract for a method WITH HANDLERS (hh: its table) -/
abbrev wsW_ (y : MethodName) (b : ByteArray) (L : Nat) (r : Option FieldType) (hh : List (Nat × Nat × Nat × Nat)) : List Cond := Cond.codeWith y b L r hh :: lw_all
theorem lw_methW {y : MethodName} {b : ByteArray} {L : Nat} {r : Option FieldType} {hh : List (Nat × Nat × Nat × Nat)} (h : Cond.codeWith y b L r hh ∈ lw_all) : GoodIn lw_all (wsW_ y b L r hh) := by
  intro w hw
  rcases List.mem_cons.mp hw with e | e
  · rw [e]
    exact lw_self _ h
  · exact lw_self _ e
/-- any list of words by their places (lw_in), good -/
theorem lw_good {ws : List Cond} (h : ∀ w ∈ ws, w ∈ lw_all) : GoodIn lw_all ws := fun w hw => lw_self w (h w hw)
/-- what a call of a method with handlers asks: vx_cwVW n hts (lw_VW ..), vx_cwSW n hts (lw_SW ..) -/
theorem lw_VW {own : String} {idx : Nat} {C : String} {y : MethodName} {b : ByteArray} {L : Nat} {r : Option FieldType} {hh : List (Nat × Nat × Nat × Nat)} (h1 : Cond.methodLink own idx y ∈ lw_all) (h2 : Cond.instanceMethod y ∈ lw_all) (h3 : Cond.selects C y y ∈ lw_all) (h4 : Cond.initialized C ∈ lw_all) (h5 : Cond.codeWith y b L r hh ∈ lw_all) : GoodIn lw_all (wsV own idx C y (wsW_ y b L r hh)) := by
  refine lw_app ?_ (lw_methW h5)
  intro w hw
  simp only [List.mem_cons, List.not_mem_nil, or_false] at hw
  rcases hw with e | e | e | e
  · rw [e]; exact h1
  · rw [e]; exact h2
  · rw [e]; exact h3
  · rw [e]; exact h4
theorem lw_SW {own : String} {idx : Nat} {y : MethodName} {b : ByteArray} {L : Nat} {r : Option FieldType} {hh : List (Nat × Nat × Nat × Nat)} (h1 : Cond.methodLink own idx y ∈ lw_all) (h2 : Cond.static y ∈ lw_all) (h3 : Cond.initialized y.cls ∈ lw_all) (h4 : Cond.codeWith y b L r hh ∈ lw_all) : GoodIn lw_all (va_wsS own idx y (wsW_ y b L r hh)) := by
  refine lw_app ?_ (lw_methW h4)
  intro w hw
  simp only [List.mem_cons, List.not_mem_nil, or_false] at hw
  rcases hw with e | e | e
  · rw [e]; exact h1
  · rw [e]; exact h2
  · rw [e]; exact h3
/-- a word by its place in its run of the tables -/
theorem lw_at {r : List Cond} (hr : ∀ w ∈ r, w ∈ lw_tbl) {w : Cond} (i : Nat) (h : r[i]? = some w) : w ∈ lw_tbl := hr w (List.mem_of_getElem? h)
theorem lw_g {w : Cond} (h : w ∈ lw_tbl) (g : goodWord w = true) : w ∈ lw_all := List.mem_filter.mpr ⟨h, g⟩
theorem lw_ms : ∀ w ∈ k2_sels lw_privs, w ∈ lw_tbl := fun w h => show w ∈ k2_sels lw_privs ++ tables_1 from List.mem_append_left _ h
theorem lw_m1 : ∀ w ∈ tables_1_1, w ∈ lw_tbl := fun w h => show w ∈ k2_sels lw_privs ++ tables_1 from List.mem_append_right (k2_sels lw_privs) (show w ∈ tables_1 from List.mem_append_left _ h)
theorem lw_m2 : ∀ w ∈ tables_1_2, w ∈ lw_tbl := fun w h => show w ∈ k2_sels lw_privs ++ tables_1 from List.mem_append_right (k2_sels lw_privs) (show w ∈ tables_1 from List.mem_append_right _ (List.mem_append_left _ h))
theorem lw_m3 : ∀ w ∈ tables_1_3, w ∈ lw_tbl := fun w h => show w ∈ k2_sels lw_privs ++ tables_1 from List.mem_append_right (k2_sels lw_privs) (show w ∈ tables_1 from List.mem_append_right _ (List.mem_append_right _ (List.mem_append_left _ h)))
theorem lw_m4 : ∀ w ∈ tables_1_4, w ∈ lw_tbl := fun w h => show w ∈ k2_sels lw_privs ++ tables_1 from List.mem_append_right (k2_sels lw_privs) (show w ∈ tables_1 from List.mem_append_right _ (List.mem_append_right _ (List.mem_append_right _ (List.mem_append_left _ h))))
theorem lw_m5 : ∀ w ∈ tables_1_5, w ∈ lw_tbl := fun w h => show w ∈ k2_sels lw_privs ++ tables_1 from List.mem_append_right (k2_sels lw_privs) (show w ∈ tables_1 from List.mem_append_right _ (List.mem_append_right _ (List.mem_append_right _ (List.mem_append_right _ (List.mem_append_left _ h)))))
theorem lw_m6 : ∀ w ∈ tables_1_6, w ∈ lw_tbl := fun w h => show w ∈ k2_sels lw_privs ++ tables_1 from List.mem_append_right (k2_sels lw_privs) (show w ∈ tables_1 from List.mem_append_right _ (List.mem_append_right _ (List.mem_append_right _ (List.mem_append_right _ (List.mem_append_right _ (List.mem_append_left _ h))))))
theorem lw_m7 : ∀ w ∈ tables_1_7, w ∈ lw_tbl := fun w h => show w ∈ k2_sels lw_privs ++ tables_1 from List.mem_append_right (k2_sels lw_privs) (show w ∈ tables_1 from List.mem_append_right _ (List.mem_append_right _ (List.mem_append_right _ (List.mem_append_right _ (List.mem_append_right _ (List.mem_append_right _ (List.mem_append_left _ h)))))))
theorem lw_m8 : ∀ w ∈ tables_1_8, w ∈ lw_tbl := fun w h => show w ∈ k2_sels lw_privs ++ tables_1 from List.mem_append_right (k2_sels lw_privs) (show w ∈ tables_1 from List.mem_append_right _ (List.mem_append_right _ (List.mem_append_right _ (List.mem_append_right _ (List.mem_append_right _ (List.mem_append_right _ (List.mem_append_right _ h)))))))
theorem qs0 : (Cond.selects "java/lang/NullPointerException" ⟨"java/lang/NullPointerException", "getExtendedNPEMessage", "()Ljava/lang/String;"⟩ ⟨"java/lang/NullPointerException", "getExtendedNPEMessage", "()Ljava/lang/String;"⟩) ∈ lw_all := lw_g (lw_at lw_ms 0 rfl) rfl
theorem qs1 : (Cond.selects "java/lang/Throwable" ⟨"java/lang/Throwable", "fillInStackTrace", "(I)Ljava/lang/Throwable;"⟩ ⟨"java/lang/Throwable", "fillInStackTrace", "(I)Ljava/lang/Throwable;"⟩) ∈ lw_all := lw_g (lw_at lw_ms 1 rfl) rfl
theorem qs2 : (Cond.selects "PointAtWhoIsLost" ⟨"PointAtWhoIsLost", "no", "(I)I"⟩ ⟨"PointAtWhoIsLost", "no", "(I)I"⟩) ∈ lw_all := lw_g (lw_at lw_ms 2 rfl) rfl
theorem qs3 : (Cond.selects "PointAtWhoIsLost" ⟨"PointAtWhoIsLost", "rowIn", "(I)Ljava/lang/Object;"⟩ ⟨"PointAtWhoIsLost", "rowIn", "(I)Ljava/lang/Object;"⟩) ∈ lw_all := lw_g (lw_at lw_ms 3 rfl) rfl
theorem qs4 : (Cond.selects "PointAtWhoIsLost" ⟨"PointAtWhoIsLost", "armOf", "(LPointAtWhoIsLost$Post;)I"⟩ ⟨"PointAtWhoIsLost", "armOf", "(LPointAtWhoIsLost$Post;)I"⟩) ∈ lw_all := lw_g (lw_at lw_ms 4 rfl) rfl
theorem qs5 : (Cond.selects "PointAtWhoIsLost$Reader" ⟨"PointAtWhoIsLost$Reader", "next", "()V"⟩ ⟨"PointAtWhoIsLost$Reader", "next", "()V"⟩) ∈ lw_all := lw_g (lw_at lw_ms 5 rfl) rfl
theorem qs6 : (Cond.selects "PointAtWhoIsLost$Reader" ⟨"PointAtWhoIsLost$Reader", "isIn", "(II)Z"⟩ ⟨"PointAtWhoIsLost$Reader", "isIn", "(II)Z"⟩) ∈ lw_all := lw_g (lw_at lw_ms 6 rfl) rfl
theorem qs7 : (Cond.selects "PointAtWhoIsLost$Reader" ⟨"PointAtWhoIsLost$Reader", "item", "()V"⟩ ⟨"PointAtWhoIsLost$Reader", "item", "()V"⟩) ∈ lw_all := lw_g (lw_at lw_ms 7 rfl) rfl
theorem qs8 : (Cond.selects "PointAtWhoIsLost$Reader" ⟨"PointAtWhoIsLost$Reader", "wrong", "()LPointAtWhoIsLost$Fault;"⟩ ⟨"PointAtWhoIsLost$Reader", "wrong", "()LPointAtWhoIsLost$Fault;"⟩) ∈ lw_all := lw_g (lw_at lw_ms 8 rfl) rfl
theorem qs9 : (Cond.selects "PointAtWhoIsLost$Reader" ⟨"PointAtWhoIsLost$Reader", "number", "(II)I"⟩ ⟨"PointAtWhoIsLost$Reader", "number", "(II)I"⟩) ∈ lw_all := lw_g (lw_at lw_ms 9 rfl) rfl
theorem qs10 : (Cond.selects "PointAtWhoIsLost$Reader" ⟨"PointAtWhoIsLost$Reader", "need", "(Z)V"⟩ ⟨"PointAtWhoIsLost$Reader", "need", "(Z)V"⟩) ∈ lw_all := lw_g (lw_at lw_ms 10 rfl) rfl
theorem qs11 : (Cond.selects "PointAtWhoIsLost$Reader" ⟨"PointAtWhoIsLost$Reader", "cell", "(Z)I"⟩ ⟨"PointAtWhoIsLost$Reader", "cell", "(Z)I"⟩) ∈ lw_all := lw_g (lw_at lw_ms 11 rfl) rfl
theorem qs12 : (Cond.selects "PointAtWhoIsLost$Reader" ⟨"PointAtWhoIsLost$Reader", "takes", "(Ljava/lang/String;)Z"⟩ ⟨"PointAtWhoIsLost$Reader", "takes", "(Ljava/lang/String;)Z"⟩) ∈ lw_all := lw_g (lw_at lw_ms 12 rfl) rfl
theorem qs13 : (Cond.selects "PointAtWhoIsLost" ⟨"PointAtWhoIsLost", "becomes", "(LPointAtWhoIsLost$Fen;)V"⟩ ⟨"PointAtWhoIsLost", "becomes", "(LPointAtWhoIsLost$Fen;)V"⟩) ∈ lw_all := lw_g (lw_at lw_ms 13 rfl) rfl
theorem qs14 : (Cond.selects "PointAtWhoIsLost" ⟨"PointAtWhoIsLost", "armAt", "(LPointAtWhoIsLost$Post;I)I"⟩ ⟨"PointAtWhoIsLost", "armAt", "(LPointAtWhoIsLost$Post;I)I"⟩) ∈ lw_all := lw_g (lw_at lw_ms 14 rfl) rfl
theorem qs15 : (Cond.selects "PointAtWhoIsLost" ⟨"PointAtWhoIsLost", "pairsIn", "(ZII)[J"⟩ ⟨"PointAtWhoIsLost", "pairsIn", "(ZII)[J"⟩) ∈ lw_all := lw_g (lw_at lw_ms 15 rfl) rfl
theorem qs16 : (Cond.selects "PointAtWhoIsLost" ⟨"PointAtWhoIsLost", "toldIn", "(ZIII)[J"⟩ ⟨"PointAtWhoIsLost", "toldIn", "(ZIII)[J"⟩) ∈ lw_all := lw_g (lw_at lw_ms 16 rfl) rfl
theorem qs17 : (Cond.selects "PointAtWhoIsLost" ⟨"PointAtWhoIsLost", "many", "([JI)I"⟩ ⟨"PointAtWhoIsLost", "many", "([JI)I"⟩) ∈ lw_all := lw_g (lw_at lw_ms 17 rfl) rfl
theorem qs18 : (Cond.selects "PointAtWhoIsLost" ⟨"PointAtWhoIsLost", "fits", "([JII)Z"⟩ ⟨"PointAtWhoIsLost", "fits", "([JII)Z"⟩) ∈ lw_all := lw_g (lw_at lw_ms 18 rfl) rfl
theorem qs19 : (Cond.selects "PointAtWhoIsLost" ⟨"PointAtWhoIsLost", "nextOf", "([J)I"⟩ ⟨"PointAtWhoIsLost", "nextOf", "([J)I"⟩) ∈ lw_all := lw_g (lw_at lw_ms 19 rfl) rfl
theorem qs20 : (Cond.selects "PointAtWhoIsLost" ⟨"PointAtWhoIsLost", "worstOf", "([JI)I"⟩ ⟨"PointAtWhoIsLost", "worstOf", "([JI)I"⟩) ∈ lw_all := lw_g (lw_at lw_ms 20 rfl) rfl
theorem qs21 : (Cond.selects "PointAtWhoIsLost" ⟨"PointAtWhoIsLost", "falseOf", "([J)I"⟩ ⟨"PointAtWhoIsLost", "falseOf", "([J)I"⟩) ∈ lw_all := lw_g (lw_at lw_ms 21 rfl) rfl
theorem qs22 : (Cond.selects "PointAtWhoIsLost" ⟨"PointAtWhoIsLost", "allPosts", "()I"⟩ ⟨"PointAtWhoIsLost", "allPosts", "()I"⟩) ∈ lw_all := lw_g (lw_at lw_ms 22 rfl) rfl
theorem qs23 : (Cond.selects "PointAtWhoIsLost" ⟨"PointAtWhoIsLost", "tells", "(ILPointAtWhoIsLost$Post;)V"⟩ ⟨"PointAtWhoIsLost", "tells", "(ILPointAtWhoIsLost$Post;)V"⟩) ∈ lw_all := lw_g (lw_at lw_ms 23 rfl) rfl
theorem qs24 : (Cond.selects "PointAtWhoIsLost" ⟨"PointAtWhoIsLost", "manyAlike", "(I)I"⟩ ⟨"PointAtWhoIsLost", "manyAlike", "(I)I"⟩) ∈ lw_all := lw_g (lw_at lw_ms 24 rfl) rfl
theorem qs25 : (Cond.selects "PointAtWhoIsLost" ⟨"PointAtWhoIsLost", "groups", "(ILPointAtWhoIsLost$Post;)I"⟩ ⟨"PointAtWhoIsLost", "groups", "(ILPointAtWhoIsLost$Post;)I"⟩) ∈ lw_all := lw_g (lw_at lw_ms 25 rfl) rfl
theorem qs26 : (Cond.selects "PointAtWhoIsLost" ⟨"PointAtWhoIsLost", "isFirst", "(I)Z"⟩ ⟨"PointAtWhoIsLost", "isFirst", "(I)Z"⟩) ∈ lw_all := lw_g (lw_at lw_ms 26 rfl) rfl
theorem qs27 : (Cond.selects "PointAtWhoIsLost" ⟨"PointAtWhoIsLost", "greatest", "()I"⟩ ⟨"PointAtWhoIsLost", "greatest", "()I"⟩) ∈ lw_all := lw_g (lw_at lw_ms 27 rfl) rfl
theorem qs28 : (Cond.selects "PointAtWhoIsLost" ⟨"PointAtWhoIsLost", "blind", "()I"⟩ ⟨"PointAtWhoIsLost", "blind", "()I"⟩) ∈ lw_all := lw_g (lw_at lw_ms 28 rfl) rfl
theorem qs29 : (Cond.selects "PointAtWhoIsLost" ⟨"PointAtWhoIsLost", "longest", "(I)I"⟩ ⟨"PointAtWhoIsLost", "longest", "(I)I"⟩) ∈ lw_all := lw_g (lw_at lw_ms 29 rfl) rfl
theorem qs30 : (Cond.selects "PointAtWhoIsLost" ⟨"PointAtWhoIsLost", "wrongIn", "([JI)I"⟩ ⟨"PointAtWhoIsLost", "wrongIn", "([JI)I"⟩) ∈ lw_all := lw_g (lw_at lw_ms 30 rfl) rfl
theorem qs31 : (Cond.selects "PointAtWhoIsLost" ⟨"PointAtWhoIsLost", "walkIn", "(III)[J"⟩ ⟨"PointAtWhoIsLost", "walkIn", "(III)[J"⟩) ∈ lw_all := lw_g (lw_at lw_ms 31 rfl) rfl
theorem qs32 : (Cond.selects "PointAtWhoIsLost$Fen" ⟨"PointAtWhoIsLost$Fen", "homeward", "(I)V"⟩ ⟨"PointAtWhoIsLost$Fen", "homeward", "(I)V"⟩) ∈ lw_all := lw_g (lw_at lw_ms 32 rfl) rfl
theorem qs33 : (Cond.selects "PointAtWhoIsLost" ⟨"PointAtWhoIsLost", "manyLost", "()I"⟩ ⟨"PointAtWhoIsLost", "manyLost", "()I"⟩) ∈ lw_all := lw_g (lw_at lw_ms 33 rfl) rfl
theorem qs34 : (Cond.selects "PointAtWhoIsLost" ⟨"PointAtWhoIsLost", "shelved", "()I"⟩ ⟨"PointAtWhoIsLost", "shelved", "()I"⟩) ∈ lw_all := lw_g (lw_at lw_ms 34 rfl) rfl
theorem qs35 : (Cond.selects "PointAtWhoIsLostModel" ⟨"PointAtWhoIsLostModel", "no", "(I)I"⟩ ⟨"PointAtWhoIsLostModel", "no", "(I)I"⟩) ∈ lw_all := lw_g (lw_at lw_ms 35 rfl) rfl
theorem qs36 : (Cond.selects "PointAtWhoIsLostModel" ⟨"PointAtWhoIsLostModel", "isRow", "(I)Z"⟩ ⟨"PointAtWhoIsLostModel", "isRow", "(I)Z"⟩) ∈ lw_all := lw_g (lw_at lw_ms 36 rfl) rfl
theorem qs37 : (Cond.selects "PointAtWhoIsLostModel" ⟨"PointAtWhoIsLostModel", "noRow", "(I)I"⟩ ⟨"PointAtWhoIsLostModel", "noRow", "(I)I"⟩) ∈ lw_all := lw_g (lw_at lw_ms 37 rfl) rfl
theorem qs38 : (Cond.selects "PointAtWhoIsLostModel" ⟨"PointAtWhoIsLostModel", "isPost", "(J)Z"⟩ ⟨"PointAtWhoIsLostModel", "isPost", "(J)Z"⟩) ∈ lw_all := lw_g (lw_at lw_ms 38 rfl) rfl
theorem qs39 : (Cond.selects "PointAtWhoIsLostModel" ⟨"PointAtWhoIsLostModel", "asThingsAre", "()V"⟩ ⟨"PointAtWhoIsLostModel", "asThingsAre", "()V"⟩) ∈ lw_all := lw_g (lw_at lw_ms 39 rfl) rfl
theorem qs40 : (Cond.selects "PointAtWhoIsLostModel" ⟨"PointAtWhoIsLostModel", "isLost", "(I)Z"⟩ ⟨"PointAtWhoIsLostModel", "isLost", "(I)Z"⟩) ∈ lw_all := lw_g (lw_at lw_ms 40 rfl) rfl
theorem qs41 : (Cond.selects "PointAtWhoIsLostModel" ⟨"PointAtWhoIsLostModel", "armOf", "(I)I"⟩ ⟨"PointAtWhoIsLostModel", "armOf", "(I)I"⟩) ∈ lw_all := lw_g (lw_at lw_ms 41 rfl) rfl
theorem qs42 : (Cond.selects "PointAtWhoIsLostModel" ⟨"PointAtWhoIsLostModel", "keenArm", "(I)I"⟩ ⟨"PointAtWhoIsLostModel", "keenArm", "(I)I"⟩) ∈ lw_all := lw_g (lw_at lw_ms 42 rfl) rfl
theorem qs43 : (Cond.selects "PointAtWhoIsLostModel" ⟨"PointAtWhoIsLostModel", "lazyArm", "(I)I"⟩ ⟨"PointAtWhoIsLostModel", "lazyArm", "(I)I"⟩) ∈ lw_all := lw_g (lw_at lw_ms 43 rfl) rfl
theorem qs44 : (Cond.selects "PointAtWhoIsLostModel" ⟨"PointAtWhoIsLostModel", "plainArm", "(I)I"⟩ ⟨"PointAtWhoIsLostModel", "plainArm", "(I)I"⟩) ∈ lw_all := lw_g (lw_at lw_ms 44 rfl) rfl
theorem qs45 : (Cond.selects "PointAtWhoIsLostModel" ⟨"PointAtWhoIsLostModel", "tornArm", "(I)I"⟩ ⟨"PointAtWhoIsLostModel", "tornArm", "(I)I"⟩) ∈ lw_all := lw_g (lw_at lw_ms 45 rfl) rfl
theorem qs46 : (Cond.selects "PointAtWhoIsLostModel" ⟨"PointAtWhoIsLostModel", "isCell", "(J)Z"⟩ ⟨"PointAtWhoIsLostModel", "isCell", "(J)Z"⟩) ∈ lw_all := lw_g (lw_at lw_ms 46 rfl) rfl
theorem qs47 : (Cond.selects "PointAtWhoIsLostModel" ⟨"PointAtWhoIsLostModel", "isWalkerAt", "(I)Z"⟩ ⟨"PointAtWhoIsLostModel", "isWalkerAt", "(I)Z"⟩) ∈ lw_all := lw_g (lw_at lw_ms 47 rfl) rfl
theorem qs48 : (Cond.selects "PointAtWhoIsLostModel" ⟨"PointAtWhoIsLostModel", "newPost", "(III)I"⟩ ⟨"PointAtWhoIsLostModel", "newPost", "(III)I"⟩) ∈ lw_all := lw_g (lw_at lw_ms 48 rfl) rfl
theorem qs49 : (Cond.selects "PointAtWhoIsLostModel" ⟨"PointAtWhoIsLostModel", "newWalker", "(II)I"⟩ ⟨"PointAtWhoIsLostModel", "newWalker", "(II)I"⟩) ∈ lw_all := lw_g (lw_at lw_ms 49 rfl) rfl
theorem qs50 : (Cond.selects "PointAtWhoIsLostModel" ⟨"PointAtWhoIsLostModel", "isWalker", "(I)Z"⟩ ⟨"PointAtWhoIsLostModel", "isWalker", "(I)Z"⟩) ∈ lw_all := lw_g (lw_at lw_ms 50 rfl) rfl
theorem qs51 : (Cond.selects "PointAtWhoIsLostModel" ⟨"PointAtWhoIsLostModel", "keep", "([I)V"⟩ ⟨"PointAtWhoIsLostModel", "keep", "([I)V"⟩) ∈ lw_all := lw_g (lw_at lw_ms 51 rfl) rfl
theorem qs52 : (Cond.selects "PointAtWhoIsLostModel" ⟨"PointAtWhoIsLostModel", "next", "()V"⟩ ⟨"PointAtWhoIsLostModel", "next", "()V"⟩) ∈ lw_all := lw_g (lw_at lw_ms 52 rfl) rfl
theorem qs53 : (Cond.selects "PointAtWhoIsLostModel" ⟨"PointAtWhoIsLostModel", "statement", "()Z"⟩ ⟨"PointAtWhoIsLostModel", "statement", "()Z"⟩) ∈ lw_all := lw_g (lw_at lw_ms 53 rfl) rfl
theorem qs54 : (Cond.selects "PointAtWhoIsLostModel" ⟨"PointAtWhoIsLostModel", "isWord", "(Ljava/lang/String;)Z"⟩ ⟨"PointAtWhoIsLostModel", "isWord", "(Ljava/lang/String;)Z"⟩) ∈ lw_all := lw_g (lw_at lw_ms 54 rfl) rfl
theorem qs55 : (Cond.selects "PointAtWhoIsLostModel" ⟨"PointAtWhoIsLostModel", "number", "(II)I"⟩ ⟨"PointAtWhoIsLostModel", "number", "(II)I"⟩) ∈ lw_all := lw_g (lw_at lw_ms 55 rfl) rfl
theorem qs56 : (Cond.selects "PointAtWhoIsLostModel" ⟨"PointAtWhoIsLostModel", "place", "()I"⟩ ⟨"PointAtWhoIsLostModel", "place", "()I"⟩) ∈ lw_all := lw_g (lw_at lw_ms 56 rfl) rfl
theorem qs57 : (Cond.selects "PointAtWhoIsLostModel" ⟨"PointAtWhoIsLostModel", "again", "([I)V"⟩ ⟨"PointAtWhoIsLostModel", "again", "([I)V"⟩) ∈ lw_all := lw_g (lw_at lw_ms 57 rfl) rfl
theorem qs58 : (Cond.selects "PointAtWhoIsLostModel" ⟨"PointAtWhoIsLostModel", "pathOf", "(II)I"⟩ ⟨"PointAtWhoIsLostModel", "pathOf", "(II)I"⟩) ∈ lw_all := lw_g (lw_at lw_ms 58 rfl) rfl
theorem qs59 : (Cond.selects "PointAtWhoIsLostModel" ⟨"PointAtWhoIsLostModel", "walks", "(I)V"⟩ ⟨"PointAtWhoIsLostModel", "walks", "(I)V"⟩) ∈ lw_all := lw_g (lw_at lw_ms 59 rfl) rfl
theorem qs60 : (Cond.selects "PointAtWhoIsLostModel" ⟨"PointAtWhoIsLostModel", "can", "(II)Z"⟩ ⟨"PointAtWhoIsLostModel", "can", "(II)Z"⟩) ∈ lw_all := lw_g (lw_at lw_ms 60 rfl) rfl
theorem qs61 : (Cond.selects "PointAtWhoIsLostModel" ⟨"PointAtWhoIsLostModel", "beside", "(II)I"⟩ ⟨"PointAtWhoIsLostModel", "beside", "(II)I"⟩) ∈ lw_all := lw_g (lw_at lw_ms 61 rfl) rfl
theorem qs62 : (Cond.selects "PointAtWhoIsLostModel" ⟨"PointAtWhoIsLostModel", "armFor", "(II)I"⟩ ⟨"PointAtWhoIsLostModel", "armFor", "(II)I"⟩) ∈ lw_all := lw_g (lw_at lw_ms 62 rfl) rfl
theorem qs63 : (Cond.selects "PointAtWhoIsLostModel" ⟨"PointAtWhoIsLostModel", "one", "(I)V"⟩ ⟨"PointAtWhoIsLostModel", "one", "(I)V"⟩) ∈ lw_all := lw_g (lw_at lw_ms 63 rfl) rfl
theorem qs64 : (Cond.selects "PointAtWhoIsLostModel" ⟨"PointAtWhoIsLostModel", "noPairs", "(II)I"⟩ ⟨"PointAtWhoIsLostModel", "noPairs", "(II)I"⟩) ∈ lw_all := lw_g (lw_at lw_ms 64 rfl) rfl
theorem qs65 : (Cond.selects "PointAtWhoIsLostModel" ⟨"PointAtWhoIsLostModel", "noTold", "(II)I"⟩ ⟨"PointAtWhoIsLostModel", "noTold", "(II)I"⟩) ∈ lw_all := lw_g (lw_at lw_ms 65 rfl) rfl
theorem qs66 : (Cond.selects "PointAtWhoIsLostModel" ⟨"PointAtWhoIsLostModel", "toldAt", "(II)J"⟩ ⟨"PointAtWhoIsLostModel", "toldAt", "(II)J"⟩) ∈ lw_all := lw_g (lw_at lw_ms 66 rfl) rfl
theorem qs67 : (Cond.selects "PointAtWhoIsLostModel" ⟨"PointAtWhoIsLostModel", "fitting", "(III)I"⟩ ⟨"PointAtWhoIsLostModel", "fitting", "(III)I"⟩) ∈ lw_all := lw_g (lw_at lw_ms 67 rfl) rfl
theorem qs68 : (Cond.selects "PointAtWhoIsLostModel" ⟨"PointAtWhoIsLostModel", "fits", "(IIII)Z"⟩ ⟨"PointAtWhoIsLostModel", "fits", "(IIII)Z"⟩) ∈ lw_all := lw_g (lw_at lw_ms 68 rfl) rfl
theorem qs69 : (Cond.selects "PointAtWhoIsLostModel" ⟨"PointAtWhoIsLostModel", "isDry", "(I)Z"⟩ ⟨"PointAtWhoIsLostModel", "isDry", "(I)Z"⟩) ∈ lw_all := lw_g (lw_at lw_ms 69 rfl) rfl
theorem qs70 : (Cond.selects "PointAtWhoIsLostModel" ⟨"PointAtWhoIsLostModel", "asked", "(II)I"⟩ ⟨"PointAtWhoIsLostModel", "asked", "(II)I"⟩) ∈ lw_all := lw_g (lw_at lw_ms 70 rfl) rfl
theorem qs71 : (Cond.selects "PointAtWhoIsLostModel" ⟨"PointAtWhoIsLostModel", "worstOf", "(III)I"⟩ ⟨"PointAtWhoIsLostModel", "worstOf", "(III)I"⟩) ∈ lw_all := lw_g (lw_at lw_ms 71 rfl) rfl
theorem qs72 : (Cond.selects "PointAtWhoIsLostModel" ⟨"PointAtWhoIsLostModel", "liar", "(II)I"⟩ ⟨"PointAtWhoIsLostModel", "liar", "(II)I"⟩) ∈ lw_all := lw_g (lw_at lw_ms 72 rfl) rfl
theorem qs73 : (Cond.selects "PointAtWhoIsLostModel" ⟨"PointAtWhoIsLostModel", "blind", "()I"⟩ ⟨"PointAtWhoIsLostModel", "blind", "()I"⟩) ∈ lw_all := lw_g (lw_at lw_ms 73 rfl) rfl
theorem qs74 : (Cond.selects "PointAtWhoIsLostModel" ⟨"PointAtWhoIsLostModel", "allPosts", "()I"⟩ ⟨"PointAtWhoIsLostModel", "allPosts", "()I"⟩) ∈ lw_all := lw_g (lw_at lw_ms 74 rfl) rfl
theorem qs75 : (Cond.selects "PointAtWhoIsLostModel" ⟨"PointAtWhoIsLostModel", "groups", "(I)I"⟩ ⟨"PointAtWhoIsLostModel", "groups", "(I)I"⟩) ∈ lw_all := lw_g (lw_at lw_ms 75 rfl) rfl
theorem qs76 : (Cond.selects "PointAtWhoIsLostModel" ⟨"PointAtWhoIsLostModel", "isAlike", "(III)Z"⟩ ⟨"PointAtWhoIsLostModel", "isAlike", "(III)Z"⟩) ∈ lw_all := lw_g (lw_at lw_ms 76 rfl) rfl
theorem qs77 : (Cond.selects "PointAtWhoIsLostModel" ⟨"PointAtWhoIsLostModel", "sizeOf", "(I)I"⟩ ⟨"PointAtWhoIsLostModel", "sizeOf", "(I)I"⟩) ∈ lw_all := lw_g (lw_at lw_ms 77 rfl) rfl
theorem qs78 : (Cond.selects "PointAtWhoIsLostModel" ⟨"PointAtWhoIsLostModel", "commandTo", "(II)I"⟩ ⟨"PointAtWhoIsLostModel", "commandTo", "(II)I"⟩) ∈ lw_all := lw_g (lw_at lw_ms 78 rfl) rfl
theorem qs79 : (Cond.selects "PointAtWhoIsLostModel" ⟨"PointAtWhoIsLostModel", "out", "(I)I"⟩ ⟨"PointAtWhoIsLostModel", "out", "(I)I"⟩) ∈ lw_all := lw_g (lw_at lw_ms 79 rfl) rfl
theorem qs80 : (Cond.selects "PointAtWhoIsLostModel" ⟨"PointAtWhoIsLostModel", "wrong", "(III)I"⟩ ⟨"PointAtWhoIsLostModel", "wrong", "(III)I"⟩) ∈ lw_all := lw_g (lw_at lw_ms 80 rfl) rfl
theorem qs81 : (Cond.selects "PointAtWhoIsLostModel" ⟨"PointAtWhoIsLostModel", "noWalk", "(III)I"⟩ ⟨"PointAtWhoIsLostModel", "noWalk", "(III)I"⟩) ∈ lw_all := lw_g (lw_at lw_ms 81 rfl) rfl
theorem qs82 : (Cond.selects "PointAtWhoIsLostModel" ⟨"PointAtWhoIsLostModel", "goesBy", "(II)I"⟩ ⟨"PointAtWhoIsLostModel", "goesBy", "(II)I"⟩) ∈ lw_all := lw_g (lw_at lw_ms 82 rfl) rfl
theorem qs83 : (Cond.selects "PointAtWhoIsLostModel" ⟨"PointAtWhoIsLostModel", "day", "()V"⟩ ⟨"PointAtWhoIsLostModel", "day", "()V"⟩) ∈ lw_all := lw_g (lw_at lw_ms 83 rfl) rfl
theorem qs84 : (Cond.selects "PointAtWhoIsLostModel" ⟨"PointAtWhoIsLostModel", "draw", "(I)I"⟩ ⟨"PointAtWhoIsLostModel", "draw", "(I)I"⟩) ∈ lw_all := lw_g (lw_at lw_ms 84 rfl) rfl
theorem qs85 : (Cond.selects "PointAtWhoIsLostModel" ⟨"PointAtWhoIsLostModel", "sureOnes", "()I"⟩ ⟨"PointAtWhoIsLostModel", "sureOnes", "()I"⟩) ∈ lw_all := lw_g (lw_at lw_ms 85 rfl) rfl
