-- ===== PART A: goes FIRST, ahead of the names: the tables' words, and 'selects' of the private methods out of them =====
/-- a private method of a class that the tables say can be made, by its rows of tables_1 -/
def lw_okq (q : MethodName × Nat) : Prop := (q.1.cls ≠ "java/lang/invoke/MethodHandle" ∧ q.1.cls ≠ "java/lang/invoke/VarHandle") ∧ Cond.instantiable q.1.cls q.2 ∈ tables_1 ∧ Cond.privateMethod q.1 ∈ tables_1 ∧ Cond.instanceMethod q.1 ∈ tables_1
set_option maxRecDepth 100000
theorem lw_t1 {w : Cond} (h : w ∈ tables_1_1) : w ∈ tables_1 := List.mem_append_left _ h
theorem lw_t2 {w : Cond} (h : w ∈ tables_1_2) : w ∈ tables_1 := List.mem_append_right _ (List.mem_append_left _ h)
theorem lw_t3 {w : Cond} (h : w ∈ tables_1_3) : w ∈ tables_1 := List.mem_append_right _ (List.mem_append_right _ (List.mem_append_left _ h))
theorem lw_t4 {w : Cond} (h : w ∈ tables_1_4) : w ∈ tables_1 := List.mem_append_right _ (List.mem_append_right _ (List.mem_append_right _ (List.mem_append_left _ h)))
theorem lw_t5 {w : Cond} (h : w ∈ tables_1_5) : w ∈ tables_1 := List.mem_append_right _ (List.mem_append_right _ (List.mem_append_right _ (List.mem_append_right _ (List.mem_append_left _ h))))
theorem lw_t6 {w : Cond} (h : w ∈ tables_1_6) : w ∈ tables_1 := List.mem_append_right _ (List.mem_append_right _ (List.mem_append_right _ (List.mem_append_right _ (List.mem_append_right _ (List.mem_append_left _ h)))))
theorem lw_t7 {w : Cond} (h : w ∈ tables_1_7) : w ∈ tables_1 := List.mem_append_right _ (List.mem_append_right _ (List.mem_append_right _ (List.mem_append_right _ (List.mem_append_right _ (List.mem_append_right _ (List.mem_append_left _ h))))))
theorem lw_t8 {w : Cond} (h : w ∈ tables_1_8) : w ∈ tables_1 := List.mem_append_right _ (List.mem_append_right _ (List.mem_append_right _ (List.mem_append_right _ (List.mem_append_right _ (List.mem_append_right _ (List.mem_append_right _ (List.mem_append_left _ h)))))))
theorem lw_t9 {w : Cond} (h : w ∈ tables_1_9) : w ∈ tables_1 := List.mem_append_right _ (List.mem_append_right _ (List.mem_append_right _ (List.mem_append_right _ (List.mem_append_right _ (List.mem_append_right _ (List.mem_append_right _ (List.mem_append_right _ (List.mem_append_left _ h))))))))
theorem lw_t10 {w : Cond} (h : w ∈ tables_1_10) : w ∈ tables_1 := List.mem_append_right _ (List.mem_append_right _ (List.mem_append_right _ (List.mem_append_right _ (List.mem_append_right _ (List.mem_append_right _ (List.mem_append_right _ (List.mem_append_right _ (List.mem_append_right _ h))))))))
theorem lw_p0 : lw_okq (⟨"HouseClaps", "come", "(I)V"⟩, 27) := ⟨⟨by decide +kernel, by decide +kernel⟩, lw_t1 (List.mem_of_getElem? (i := 45) rfl), lw_t2 (List.mem_of_getElem? (i := 79) rfl), lw_t2 (List.mem_of_getElem? (i := 80) rfl)⟩
theorem lw_p1 : lw_okq (⟨"HouseClaps", "take", "()I"⟩, 27) := ⟨⟨by decide +kernel, by decide +kernel⟩, lw_t1 (List.mem_of_getElem? (i := 45) rfl), lw_t2 (List.mem_of_getElem? (i := 92) rfl), lw_t2 (List.mem_of_getElem? (i := 93) rfl)⟩
theorem lw_p2 : lw_okq (⟨"HouseClaps$HouseReader", "row", "()V"⟩, 15) := ⟨⟨by decide +kernel, by decide +kernel⟩, lw_t2 (List.mem_of_getElem? (i := 96) rfl), lw_t3 (List.mem_of_getElem? (i := 211) rfl), lw_t3 (List.mem_of_getElem? (i := 212) rfl)⟩
theorem lw_p3 : lw_okq (⟨"java/lang/Throwable", "fillInStackTrace", "(I)Ljava/lang/Throwable;"⟩, 6) := ⟨⟨by decide +kernel, by decide +kernel⟩, lw_t4 (List.mem_of_getElem? (i := 16) rfl), lw_t4 (List.mem_of_getElem? (i := 14) rfl), lw_t4 (List.mem_of_getElem? (i := 15) rfl)⟩
theorem lw_p4 : lw_okq (⟨"HouseClaps$HouseReader", "law", "([LHouseClaps$Cond;I)V"⟩, 15) := ⟨⟨by decide +kernel, by decide +kernel⟩, lw_t2 (List.mem_of_getElem? (i := 96) rfl), lw_t4 (List.mem_of_getElem? (i := 59) rfl), lw_t4 (List.mem_of_getElem? (i := 60) rfl)⟩
theorem lw_p5 : lw_okq (⟨"HouseClaps$HouseReader", "or", "()LHouseClaps$Cond;"⟩, 15) := ⟨⟨by decide +kernel, by decide +kernel⟩, lw_t2 (List.mem_of_getElem? (i := 96) rfl), lw_t4 (List.mem_of_getElem? (i := 63) rfl), lw_t4 (List.mem_of_getElem? (i := 64) rfl)⟩
theorem lw_p6 : lw_okq (⟨"HouseClaps$HouseReader", "and", "()LHouseClaps$Cond;"⟩, 15) := ⟨⟨by decide +kernel, by decide +kernel⟩, lw_t2 (List.mem_of_getElem? (i := 96) rfl), lw_t4 (List.mem_of_getElem? (i := 67) rfl), lw_t4 (List.mem_of_getElem? (i := 68) rfl)⟩
theorem lw_p7 : lw_okq (⟨"HouseClaps$HouseReader", "one", "()LHouseClaps$Cond;"⟩, 15) := ⟨⟨by decide +kernel, by decide +kernel⟩, lw_t2 (List.mem_of_getElem? (i := 96) rfl), lw_t4 (List.mem_of_getElem? (i := 71) rfl), lw_t4 (List.mem_of_getElem? (i := 72) rfl)⟩
theorem lw_p8 : lw_okq (⟨"HouseClaps$HouseReader", "areaAtHand", "()I"⟩, 15) := ⟨⟨by decide +kernel, by decide +kernel⟩, lw_t2 (List.mem_of_getElem? (i := 96) rfl), lw_t4 (List.mem_of_getElem? (i := 83) rfl), lw_t4 (List.mem_of_getElem? (i := 84) rfl)⟩
theorem lw_p9 : lw_okq (⟨"HouseClaps$HouseReader", "compare", "(IZ)LHouseClaps$Cond;"⟩, 15) := ⟨⟨by decide +kernel, by decide +kernel⟩, lw_t2 (List.mem_of_getElem? (i := 96) rfl), lw_t4 (List.mem_of_getElem? (i := 107) rfl), lw_t4 (List.mem_of_getElem? (i := 108) rfl)⟩
theorem lw_p10 : lw_okq (⟨"HouseClaps$HouseReader", "rowTold", "(Z)I"⟩, 15) := ⟨⟨by decide +kernel, by decide +kernel⟩, lw_t2 (List.mem_of_getElem? (i := 96) rfl), lw_t4 (List.mem_of_getElem? (i := 205) rfl), lw_t4 (List.mem_of_getElem? (i := 206) rfl)⟩
theorem lw_p11 : lw_okq (⟨"HouseClaps$HouseReader", "once", "()V"⟩, 15) := ⟨⟨by decide +kernel, by decide +kernel⟩, lw_t2 (List.mem_of_getElem? (i := 96) rfl), lw_t4 (List.mem_of_getElem? (i := 217) rfl), lw_t4 (List.mem_of_getElem? (i := 218) rfl)⟩
theorem lw_p12 : lw_okq (⟨"HouseClaps$House", "see", "(IIII)V"⟩, 13) := ⟨⟨by decide +kernel, by decide +kernel⟩, lw_t1 (List.mem_of_getElem? (i := 53) rfl), lw_t4 (List.mem_of_getElem? (i := 239) rfl), lw_t5 (List.mem_of_getElem? (i := 0) rfl)⟩
theorem lw_p13 : lw_okq (⟨"HouseClaps$CueReader", "cue", "(I)LHouseClaps$Cue;"⟩, 11) := ⟨⟨by decide +kernel, by decide +kernel⟩, lw_t5 (List.mem_of_getElem? (i := 33) rfl), lw_t5 (List.mem_of_getElem? (i := 78) rfl), lw_t5 (List.mem_of_getElem? (i := 79) rfl)⟩
theorem lw_p14 : lw_okq (⟨"java/util/ArrayList", "add", "(Ljava/lang/Object;[Ljava/lang/Object;I)V"⟩, 3) := ⟨⟨by decide +kernel, by decide +kernel⟩, lw_t1 (List.mem_of_getElem? (i := 145) rfl), lw_t5 (List.mem_of_getElem? (i := 138) rfl), lw_t5 (List.mem_of_getElem? (i := 139) rfl)⟩
theorem lw_p15 : lw_okq (⟨"java/util/ArrayList", "grow", "()[Ljava/lang/Object;"⟩, 3) := ⟨⟨by decide +kernel, by decide +kernel⟩, lw_t1 (List.mem_of_getElem? (i := 145) rfl), lw_t5 (List.mem_of_getElem? (i := 142) rfl), lw_t5 (List.mem_of_getElem? (i := 143) rfl)⟩
def lw_privs_1 : List (MethodName × Nat) := [(⟨"HouseClaps", "come", "(I)V"⟩, 27), (⟨"HouseClaps", "take", "()I"⟩, 27), (⟨"HouseClaps$HouseReader", "row", "()V"⟩, 15), (⟨"java/lang/Throwable", "fillInStackTrace", "(I)Ljava/lang/Throwable;"⟩, 6), (⟨"HouseClaps$HouseReader", "law", "([LHouseClaps$Cond;I)V"⟩, 15), (⟨"HouseClaps$HouseReader", "or", "()LHouseClaps$Cond;"⟩, 15), (⟨"HouseClaps$HouseReader", "and", "()LHouseClaps$Cond;"⟩, 15), (⟨"HouseClaps$HouseReader", "one", "()LHouseClaps$Cond;"⟩, 15), (⟨"HouseClaps$HouseReader", "areaAtHand", "()I"⟩, 15), (⟨"HouseClaps$HouseReader", "compare", "(IZ)LHouseClaps$Cond;"⟩, 15), (⟨"HouseClaps$HouseReader", "rowTold", "(Z)I"⟩, 15), (⟨"HouseClaps$HouseReader", "once", "()V"⟩, 15), (⟨"HouseClaps$House", "see", "(IIII)V"⟩, 13), (⟨"HouseClaps$CueReader", "cue", "(I)LHouseClaps$Cue;"⟩, 11), (⟨"java/util/ArrayList", "add", "(Ljava/lang/Object;[Ljava/lang/Object;I)V"⟩, 3), (⟨"java/util/ArrayList", "grow", "()[Ljava/lang/Object;"⟩, 3)]
theorem lw_r1 : ∀ q ∈ lw_privs_1, lw_okq q := List.forall_mem_cons.mpr ⟨lw_p0, List.forall_mem_cons.mpr ⟨lw_p1, List.forall_mem_cons.mpr ⟨lw_p2, List.forall_mem_cons.mpr ⟨lw_p3, List.forall_mem_cons.mpr ⟨lw_p4, List.forall_mem_cons.mpr ⟨lw_p5, List.forall_mem_cons.mpr ⟨lw_p6, List.forall_mem_cons.mpr ⟨lw_p7, List.forall_mem_cons.mpr ⟨lw_p8, List.forall_mem_cons.mpr ⟨lw_p9, List.forall_mem_cons.mpr ⟨lw_p10, List.forall_mem_cons.mpr ⟨lw_p11, List.forall_mem_cons.mpr ⟨lw_p12, List.forall_mem_cons.mpr ⟨lw_p13, List.forall_mem_cons.mpr ⟨lw_p14, List.forall_mem_cons.mpr ⟨lw_p15, fun _ h => absurd h List.not_mem_nil⟩⟩⟩⟩⟩⟩⟩⟩⟩⟩⟩⟩⟩⟩⟩⟩
theorem lw_p16 : lw_okq (⟨"java/util/ArrayList", "grow", "(I)[Ljava/lang/Object;"⟩, 3) := ⟨⟨by decide +kernel, by decide +kernel⟩, lw_t1 (List.mem_of_getElem? (i := 145) rfl), lw_t5 (List.mem_of_getElem? (i := 146) rfl), lw_t5 (List.mem_of_getElem? (i := 147) rfl)⟩
theorem lw_p17 : lw_okq (⟨"HouseClaps", "tonight", "()LHouseClaps$Night;"⟩, 27) := ⟨⟨by decide +kernel, by decide +kernel⟩, lw_t1 (List.mem_of_getElem? (i := 45) rfl), lw_t5 (List.mem_of_getElem? (i := 198) rfl), lw_t5 (List.mem_of_getElem? (i := 199) rfl)⟩
theorem lw_p18 : lw_okq (⟨"HouseClaps$Night", "cue", "()V"⟩, 14) := ⟨⟨by decide +kernel, by decide +kernel⟩, lw_t1 (List.mem_of_getElem? (i := 171) rfl), lw_t5 (List.mem_of_getElem? (i := 206) rfl), lw_t5 (List.mem_of_getElem? (i := 207) rfl)⟩
theorem lw_p19 : lw_okq (⟨"HouseClaps$Night", "forced", "(I)I"⟩, 14) := ⟨⟨by decide +kernel, by decide +kernel⟩, lw_t1 (List.mem_of_getElem? (i := 171) rfl), lw_t6 (List.mem_of_getElem? (i := 12) rfl), lw_t6 (List.mem_of_getElem? (i := 13) rfl)⟩
theorem lw_p20 : lw_okq (⟨"HouseClaps$Night", "count", "()V"⟩, 14) := ⟨⟨by decide +kernel, by decide +kernel⟩, lw_t1 (List.mem_of_getElem? (i := 171) rfl), lw_t6 (List.mem_of_getElem? (i := 23) rfl), lw_t6 (List.mem_of_getElem? (i := 24) rfl)⟩
theorem lw_p21 : lw_okq (⟨"HouseClaps$Night", "go", "(I)V"⟩, 14) := ⟨⟨by decide +kernel, by decide +kernel⟩, lw_t1 (List.mem_of_getElem? (i := 171) rfl), lw_t6 (List.mem_of_getElem? (i := 36) rfl), lw_t6 (List.mem_of_getElem? (i := 37) rfl)⟩
theorem lw_p22 : lw_okq (⟨"HouseClaps$Night", "likes", "(I)I"⟩, 14) := ⟨⟨by decide +kernel, by decide +kernel⟩, lw_t1 (List.mem_of_getElem? (i := 171) rfl), lw_t6 (List.mem_of_getElem? (i := 40) rfl), lw_t6 (List.mem_of_getElem? (i := 41) rfl)⟩
theorem lw_p23 : lw_okq (⟨"HouseClaps", "quiet", "()I"⟩, 27) := ⟨⟨by decide +kernel, by decide +kernel⟩, lw_t1 (List.mem_of_getElem? (i := 45) rfl), lw_t6 (List.mem_of_getElem? (i := 145) rfl), lw_t6 (List.mem_of_getElem? (i := 146) rfl)⟩
theorem lw_p24 : lw_okq (⟨"HouseClaps", "areLike", "(II)Z"⟩, 27) := ⟨⟨by decide +kernel, by decide +kernel⟩, lw_t1 (List.mem_of_getElem? (i := 45) rfl), lw_t6 (List.mem_of_getElem? (i := 167) rfl), lw_t6 (List.mem_of_getElem? (i := 168) rfl)⟩
theorem lw_p25 : lw_okq (⟨"HouseClaps", "heightOf", "(LHouseClaps$House;JJ)I"⟩, 27) := ⟨⟨by decide +kernel, by decide +kernel⟩, lw_t1 (List.mem_of_getElem? (i := 45) rfl), lw_t6 (List.mem_of_getElem? (i := 175) rfl), lw_t6 (List.mem_of_getElem? (i := 176) rfl)⟩
theorem lw_p26 : lw_okq (⟨"HouseClaps", "takesSeats", "(II[IJ)I"⟩, 27) := ⟨⟨by decide +kernel, by decide +kernel⟩, lw_t1 (List.mem_of_getElem? (i := 45) rfl), lw_t6 (List.mem_of_getElem? (i := 187) rfl), lw_t6 (List.mem_of_getElem? (i := 188) rfl)⟩
theorem lw_p27 : lw_okq (⟨"HouseClaps", "byteAt", "(I)I"⟩, 27) := ⟨⟨by decide +kernel, by decide +kernel⟩, lw_t1 (List.mem_of_getElem? (i := 45) rfl), lw_t6 (List.mem_of_getElem? (i := 191) rfl), lw_t6 (List.mem_of_getElem? (i := 192) rfl)⟩
theorem lw_p28 : lw_okq (⟨"HouseClaps", "priceOf", "(I)I"⟩, 27) := ⟨⟨by decide +kernel, by decide +kernel⟩, lw_t1 (List.mem_of_getElem? (i := 45) rfl), lw_t6 (List.mem_of_getElem? (i := 196) rfl), lw_t6 (List.mem_of_getElem? (i := 197) rfl)⟩
theorem lw_p29 : lw_okq (⟨"HouseClaps", "handsOf", "(I)J"⟩, 27) := ⟨⟨by decide +kernel, by decide +kernel⟩, lw_t1 (List.mem_of_getElem? (i := 45) rfl), lw_t6 (List.mem_of_getElem? (i := 208) rfl), lw_t6 (List.mem_of_getElem? (i := 209) rfl)⟩
theorem lw_p30 : lw_okq (⟨"HouseClaps", "isCarried", "(LHouseClaps$House;J)Z"⟩, 27) := ⟨⟨by decide +kernel, by decide +kernel⟩, lw_t1 (List.mem_of_getElem? (i := 45) rfl), lw_t6 (List.mem_of_getElem? (i := 212) rfl), lw_t6 (List.mem_of_getElem? (i := 213) rfl)⟩
theorem lw_p31 : lw_okq (⟨"HouseClaps", "isBare", "(I)Z"⟩, 27) := ⟨⟨by decide +kernel, by decide +kernel⟩, lw_t1 (List.mem_of_getElem? (i := 45) rfl), lw_t6 (List.mem_of_getElem? (i := 228) rfl), lw_t6 (List.mem_of_getElem? (i := 229) rfl)⟩
def lw_privs_2 : List (MethodName × Nat) := [(⟨"java/util/ArrayList", "grow", "(I)[Ljava/lang/Object;"⟩, 3), (⟨"HouseClaps", "tonight", "()LHouseClaps$Night;"⟩, 27), (⟨"HouseClaps$Night", "cue", "()V"⟩, 14), (⟨"HouseClaps$Night", "forced", "(I)I"⟩, 14), (⟨"HouseClaps$Night", "count", "()V"⟩, 14), (⟨"HouseClaps$Night", "go", "(I)V"⟩, 14), (⟨"HouseClaps$Night", "likes", "(I)I"⟩, 14), (⟨"HouseClaps", "quiet", "()I"⟩, 27), (⟨"HouseClaps", "areLike", "(II)Z"⟩, 27), (⟨"HouseClaps", "heightOf", "(LHouseClaps$House;JJ)I"⟩, 27), (⟨"HouseClaps", "takesSeats", "(II[IJ)I"⟩, 27), (⟨"HouseClaps", "byteAt", "(I)I"⟩, 27), (⟨"HouseClaps", "priceOf", "(I)I"⟩, 27), (⟨"HouseClaps", "handsOf", "(I)J"⟩, 27), (⟨"HouseClaps", "isCarried", "(LHouseClaps$House;J)Z"⟩, 27), (⟨"HouseClaps", "isBare", "(I)Z"⟩, 27)]
theorem lw_r2 : ∀ q ∈ lw_privs_2, lw_okq q := List.forall_mem_cons.mpr ⟨lw_p16, List.forall_mem_cons.mpr ⟨lw_p17, List.forall_mem_cons.mpr ⟨lw_p18, List.forall_mem_cons.mpr ⟨lw_p19, List.forall_mem_cons.mpr ⟨lw_p20, List.forall_mem_cons.mpr ⟨lw_p21, List.forall_mem_cons.mpr ⟨lw_p22, List.forall_mem_cons.mpr ⟨lw_p23, List.forall_mem_cons.mpr ⟨lw_p24, List.forall_mem_cons.mpr ⟨lw_p25, List.forall_mem_cons.mpr ⟨lw_p26, List.forall_mem_cons.mpr ⟨lw_p27, List.forall_mem_cons.mpr ⟨lw_p28, List.forall_mem_cons.mpr ⟨lw_p29, List.forall_mem_cons.mpr ⟨lw_p30, List.forall_mem_cons.mpr ⟨lw_p31, fun _ h => absurd h List.not_mem_nil⟩⟩⟩⟩⟩⟩⟩⟩⟩⟩⟩⟩⟩⟩⟩⟩
theorem lw_p32 : lw_okq (⟨"HouseClaps", "isLikeSketch", "(LHouseClaps$Night;)Z"⟩, 27) := ⟨⟨by decide +kernel, by decide +kernel⟩, lw_t1 (List.mem_of_getElem? (i := 45) rfl), lw_t7 (List.mem_of_getElem? (i := 14) rfl), lw_t7 (List.mem_of_getElem? (i := 15) rfl)⟩
theorem lw_p33 : lw_okq (⟨"HouseClaps", "draw", "(I)I"⟩, 27) := ⟨⟨by decide +kernel, by decide +kernel⟩, lw_t1 (List.mem_of_getElem? (i := 45) rfl), lw_t7 (List.mem_of_getElem? (i := 59) rfl), lw_t7 (List.mem_of_getElem? (i := 60) rfl)⟩
theorem lw_p34 : lw_okq (⟨"HouseClaps", "arrangeOnce", "(I)I"⟩, 27) := ⟨⟨by decide +kernel, by decide +kernel⟩, lw_t1 (List.mem_of_getElem? (i := 45) rfl), lw_t7 (List.mem_of_getElem? (i := 68) rfl), lw_t7 (List.mem_of_getElem? (i := 69) rfl)⟩
theorem lw_p35 : lw_okq (⟨"HouseClapsModel", "four", "(I)V"⟩, 69) := ⟨⟨by decide +kernel, by decide +kernel⟩, lw_t7 (List.mem_of_getElem? (i := 159) rfl), lw_t7 (List.mem_of_getElem? (i := 157) rfl), lw_t7 (List.mem_of_getElem? (i := 158) rfl)⟩
theorem lw_p36 : lw_okq (⟨"HouseClapsModel", "plainHouse", "()V"⟩, 69) := ⟨⟨by decide +kernel, by decide +kernel⟩, lw_t7 (List.mem_of_getElem? (i := 159) rfl), lw_t7 (List.mem_of_getElem? (i := 171) rfl), lw_t7 (List.mem_of_getElem? (i := 172) rfl)⟩
theorem lw_p37 : lw_okq (⟨"HouseClapsModel", "taken", "(I)V"⟩, 69) := ⟨⟨by decide +kernel, by decide +kernel⟩, lw_t7 (List.mem_of_getElem? (i := 159) rfl), lw_t8 (List.mem_of_getElem? (i := 147) rfl), lw_t8 (List.mem_of_getElem? (i := 148) rfl)⟩
theorem lw_p38 : lw_okq (⟨"HouseClapsModel", "next", "()V"⟩, 69) := ⟨⟨by decide +kernel, by decide +kernel⟩, lw_t7 (List.mem_of_getElem? (i := 159) rfl), lw_t8 (List.mem_of_getElem? (i := 151) rfl), lw_t8 (List.mem_of_getElem? (i := 152) rfl)⟩
theorem lw_p39 : lw_okq (⟨"HouseClapsModel", "peek", "()I"⟩, 69) := ⟨⟨by decide +kernel, by decide +kernel⟩, lw_t7 (List.mem_of_getElem? (i := 159) rfl), lw_t8 (List.mem_of_getElem? (i := 155) rfl), lw_t8 (List.mem_of_getElem? (i := 156) rfl)⟩
theorem lw_p40 : lw_okq (⟨"HouseClapsModel", "line", "()Z"⟩, 69) := ⟨⟨by decide +kernel, by decide +kernel⟩, lw_t7 (List.mem_of_getElem? (i := 159) rfl), lw_t8 (List.mem_of_getElem? (i := 165) rfl), lw_t8 (List.mem_of_getElem? (i := 166) rfl)⟩
theorem lw_p41 : lw_okq (⟨"HouseClapsModel", "isWord", "(J)Z"⟩, 69) := ⟨⟨by decide +kernel, by decide +kernel⟩, lw_t7 (List.mem_of_getElem? (i := 159) rfl), lw_t8 (List.mem_of_getElem? (i := 170) rfl), lw_t8 (List.mem_of_getElem? (i := 171) rfl)⟩
theorem lw_p42 : lw_okq (⟨"HouseClapsModel", "readRow", "()Z"⟩, 69) := ⟨⟨by decide +kernel, by decide +kernel⟩, lw_t7 (List.mem_of_getElem? (i := 159) rfl), lw_t8 (List.mem_of_getElem? (i := 174) rfl), lw_t8 (List.mem_of_getElem? (i := 175) rfl)⟩
theorem lw_p43 : lw_okq (⟨"HouseClapsModel", "bad", "(I)Z"⟩, 69) := ⟨⟨by decide +kernel, by decide +kernel⟩, lw_t7 (List.mem_of_getElem? (i := 159) rfl), lw_t8 (List.mem_of_getElem? (i := 178) rfl), lw_t8 (List.mem_of_getElem? (i := 179) rfl)⟩
theorem lw_p44 : lw_okq (⟨"HouseClapsModel", "octet", "(I)I"⟩, 69) := ⟨⟨by decide +kernel, by decide +kernel⟩, lw_t7 (List.mem_of_getElem? (i := 159) rfl), lw_t8 (List.mem_of_getElem? (i := 182) rfl), lw_t8 (List.mem_of_getElem? (i := 183) rfl)⟩
theorem lw_p45 : lw_okq (⟨"HouseClapsModel", "readLaw", "(I)Z"⟩, 69) := ⟨⟨by decide +kernel, by decide +kernel⟩, lw_t7 (List.mem_of_getElem? (i := 159) rfl), lw_t8 (List.mem_of_getElem? (i := 190) rfl), lw_t8 (List.mem_of_getElem? (i := 191) rfl)⟩
theorem lw_p46 : lw_okq (⟨"HouseClapsModel", "cond", "()Z"⟩, 69) := ⟨⟨by decide +kernel, by decide +kernel⟩, lw_t7 (List.mem_of_getElem? (i := 159) rfl), lw_t8 (List.mem_of_getElem? (i := 194) rfl), lw_t8 (List.mem_of_getElem? (i := 195) rfl)⟩
theorem lw_p47 : lw_okq (⟨"HouseClapsModel", "one", "()Z"⟩, 69) := ⟨⟨by decide +kernel, by decide +kernel⟩, lw_t7 (List.mem_of_getElem? (i := 159) rfl), lw_t8 (List.mem_of_getElem? (i := 198) rfl), lw_t8 (List.mem_of_getElem? (i := 199) rfl)⟩
def lw_privs_3 : List (MethodName × Nat) := [(⟨"HouseClaps", "isLikeSketch", "(LHouseClaps$Night;)Z"⟩, 27), (⟨"HouseClaps", "draw", "(I)I"⟩, 27), (⟨"HouseClaps", "arrangeOnce", "(I)I"⟩, 27), (⟨"HouseClapsModel", "four", "(I)V"⟩, 69), (⟨"HouseClapsModel", "plainHouse", "()V"⟩, 69), (⟨"HouseClapsModel", "taken", "(I)V"⟩, 69), (⟨"HouseClapsModel", "next", "()V"⟩, 69), (⟨"HouseClapsModel", "peek", "()I"⟩, 69), (⟨"HouseClapsModel", "line", "()Z"⟩, 69), (⟨"HouseClapsModel", "isWord", "(J)Z"⟩, 69), (⟨"HouseClapsModel", "readRow", "()Z"⟩, 69), (⟨"HouseClapsModel", "bad", "(I)Z"⟩, 69), (⟨"HouseClapsModel", "octet", "(I)I"⟩, 69), (⟨"HouseClapsModel", "readLaw", "(I)Z"⟩, 69), (⟨"HouseClapsModel", "cond", "()Z"⟩, 69), (⟨"HouseClapsModel", "one", "()Z"⟩, 69)]
theorem lw_r3 : ∀ q ∈ lw_privs_3, lw_okq q := List.forall_mem_cons.mpr ⟨lw_p32, List.forall_mem_cons.mpr ⟨lw_p33, List.forall_mem_cons.mpr ⟨lw_p34, List.forall_mem_cons.mpr ⟨lw_p35, List.forall_mem_cons.mpr ⟨lw_p36, List.forall_mem_cons.mpr ⟨lw_p37, List.forall_mem_cons.mpr ⟨lw_p38, List.forall_mem_cons.mpr ⟨lw_p39, List.forall_mem_cons.mpr ⟨lw_p40, List.forall_mem_cons.mpr ⟨lw_p41, List.forall_mem_cons.mpr ⟨lw_p42, List.forall_mem_cons.mpr ⟨lw_p43, List.forall_mem_cons.mpr ⟨lw_p44, List.forall_mem_cons.mpr ⟨lw_p45, List.forall_mem_cons.mpr ⟨lw_p46, List.forall_mem_cons.mpr ⟨lw_p47, fun _ h => absurd h List.not_mem_nil⟩⟩⟩⟩⟩⟩⟩⟩⟩⟩⟩⟩⟩⟩⟩⟩
theorem lw_p48 : lw_okq (⟨"HouseClapsModel", "atom", "()I"⟩, 69) := ⟨⟨by decide +kernel, by decide +kernel⟩, lw_t7 (List.mem_of_getElem? (i := 159) rfl), lw_t8 (List.mem_of_getElem? (i := 203) rfl), lw_t8 (List.mem_of_getElem? (i := 204) rfl)⟩
theorem lw_p49 : lw_okq (⟨"HouseClapsModel", "isSign", "(I)Z"⟩, 69) := ⟨⟨by decide +kernel, by decide +kernel⟩, lw_t7 (List.mem_of_getElem? (i := 159) rfl), lw_t8 (List.mem_of_getElem? (i := 215) rfl), lw_t8 (List.mem_of_getElem? (i := 216) rfl)⟩
theorem lw_p50 : lw_okq (⟨"HouseClapsModel", "opened", "()I"⟩, 69) := ⟨⟨by decide +kernel, by decide +kernel⟩, lw_t7 (List.mem_of_getElem? (i := 159) rfl), lw_t8 (List.mem_of_getElem? (i := 219) rfl), lw_t8 (List.mem_of_getElem? (i := 220) rfl)⟩
theorem lw_p51 : lw_okq (⟨"HouseClapsModel", "asks", "(I)Z"⟩, 69) := ⟨⟨by decide +kernel, by decide +kernel⟩, lw_t7 (List.mem_of_getElem? (i := 159) rfl), lw_t8 (List.mem_of_getElem? (i := 223) rfl), lw_t8 (List.mem_of_getElem? (i := 224) rfl)⟩
theorem lw_p52 : lw_okq (⟨"HouseClapsModel", "takes", "(II)Z"⟩, 69) := ⟨⟨by decide +kernel, by decide +kernel⟩, lw_t7 (List.mem_of_getElem? (i := 159) rfl), lw_t8 (List.mem_of_getElem? (i := 227) rfl), lw_t8 (List.mem_of_getElem? (i := 228) rfl)⟩
theorem lw_p53 : lw_okq (⟨"HouseClapsModel", "write", "(I)V"⟩, 69) := ⟨⟨by decide +kernel, by decide +kernel⟩, lw_t7 (List.mem_of_getElem? (i := 159) rfl), lw_t8 (List.mem_of_getElem? (i := 231) rfl), lw_t8 (List.mem_of_getElem? (i := 232) rfl)⟩
theorem lw_p54 : lw_okq (⟨"HouseClapsModel", "writeDown", "(I)V"⟩, 69) := ⟨⟨by decide +kernel, by decide +kernel⟩, lw_t7 (List.mem_of_getElem? (i := 159) rfl), lw_t8 (List.mem_of_getElem? (i := 235) rfl), lw_t8 (List.mem_of_getElem? (i := 236) rfl)⟩
theorem lw_p55 : lw_okq (⟨"HouseClapsModel", "isOpen", "()Z"⟩, 69) := ⟨⟨by decide +kernel, by decide +kernel⟩, lw_t7 (List.mem_of_getElem? (i := 159) rfl), lw_t9 (List.mem_of_getElem? (i := 2) rfl), lw_t9 (List.mem_of_getElem? (i := 3) rfl)⟩
theorem lw_p56 : lw_okq (⟨"HouseClapsModel", "takesRow", "(I)Z"⟩, 69) := ⟨⟨by decide +kernel, by decide +kernel⟩, lw_t7 (List.mem_of_getElem? (i := 159) rfl), lw_t9 (List.mem_of_getElem? (i := 10) rfl), lw_t9 (List.mem_of_getElem? (i := 11) rfl)⟩
theorem lw_p57 : lw_okq (⟨"HouseClapsModel", "once", "(IIII)Z"⟩, 69) := ⟨⟨by decide +kernel, by decide +kernel⟩, lw_t7 (List.mem_of_getElem? (i := 159) rfl), lw_t9 (List.mem_of_getElem? (i := 19) rfl), lw_t9 (List.mem_of_getElem? (i := 20) rfl)⟩
theorem lw_p58 : lw_okq (⟨"HouseClapsModel", "sign", "(I)Z"⟩, 69) := ⟨⟨by decide +kernel, by decide +kernel⟩, lw_t7 (List.mem_of_getElem? (i := 159) rfl), lw_t9 (List.mem_of_getElem? (i := 25) rfl), lw_t9 (List.mem_of_getElem? (i := 26) rfl)⟩
theorem lw_p59 : lw_okq (⟨"HouseClapsModel", "isSeat", "(I)Z"⟩, 69) := ⟨⟨by decide +kernel, by decide +kernel⟩, lw_t7 (List.mem_of_getElem? (i := 159) rfl), lw_t9 (List.mem_of_getElem? (i := 37) rfl), lw_t9 (List.mem_of_getElem? (i := 38) rfl)⟩
theorem lw_p60 : lw_okq (⟨"HouseClapsModel", "throwsIf", "(Z)Z"⟩, 69) := ⟨⟨by decide +kernel, by decide +kernel⟩, lw_t7 (List.mem_of_getElem? (i := 159) rfl), lw_t9 (List.mem_of_getElem? (i := 41) rfl), lw_t9 (List.mem_of_getElem? (i := 42) rfl)⟩
theorem lw_p61 : lw_okq (⟨"HouseClapsModel", "price", "(I)I"⟩, 69) := ⟨⟨by decide +kernel, by decide +kernel⟩, lw_t7 (List.mem_of_getElem? (i := 159) rfl), lw_t9 (List.mem_of_getElem? (i := 45) rfl), lw_t9 (List.mem_of_getElem? (i := 46) rfl)⟩
theorem lw_p62 : lw_okq (⟨"HouseClapsModel", "readCue", "()Z"⟩, 69) := ⟨⟨by decide +kernel, by decide +kernel⟩, lw_t7 (List.mem_of_getElem? (i := 159) rfl), lw_t9 (List.mem_of_getElem? (i := 69) rfl), lw_t9 (List.mem_of_getElem? (i := 70) rfl)⟩
theorem lw_p63 : lw_okq (⟨"HouseClapsModel", "isSeatAt", "(II)Z"⟩, 69) := ⟨⟨by decide +kernel, by decide +kernel⟩, lw_t7 (List.mem_of_getElem? (i := 159) rfl), lw_t9 (List.mem_of_getElem? (i := 78) rfl), lw_t9 (List.mem_of_getElem? (i := 79) rfl)⟩
def lw_privs_4 : List (MethodName × Nat) := [(⟨"HouseClapsModel", "atom", "()I"⟩, 69), (⟨"HouseClapsModel", "isSign", "(I)Z"⟩, 69), (⟨"HouseClapsModel", "opened", "()I"⟩, 69), (⟨"HouseClapsModel", "asks", "(I)Z"⟩, 69), (⟨"HouseClapsModel", "takes", "(II)Z"⟩, 69), (⟨"HouseClapsModel", "write", "(I)V"⟩, 69), (⟨"HouseClapsModel", "writeDown", "(I)V"⟩, 69), (⟨"HouseClapsModel", "isOpen", "()Z"⟩, 69), (⟨"HouseClapsModel", "takesRow", "(I)Z"⟩, 69), (⟨"HouseClapsModel", "once", "(IIII)Z"⟩, 69), (⟨"HouseClapsModel", "sign", "(I)Z"⟩, 69), (⟨"HouseClapsModel", "isSeat", "(I)Z"⟩, 69), (⟨"HouseClapsModel", "throwsIf", "(Z)Z"⟩, 69), (⟨"HouseClapsModel", "price", "(I)I"⟩, 69), (⟨"HouseClapsModel", "readCue", "()Z"⟩, 69), (⟨"HouseClapsModel", "isSeatAt", "(II)Z"⟩, 69)]
theorem lw_r4 : ∀ q ∈ lw_privs_4, lw_okq q := List.forall_mem_cons.mpr ⟨lw_p48, List.forall_mem_cons.mpr ⟨lw_p49, List.forall_mem_cons.mpr ⟨lw_p50, List.forall_mem_cons.mpr ⟨lw_p51, List.forall_mem_cons.mpr ⟨lw_p52, List.forall_mem_cons.mpr ⟨lw_p53, List.forall_mem_cons.mpr ⟨lw_p54, List.forall_mem_cons.mpr ⟨lw_p55, List.forall_mem_cons.mpr ⟨lw_p56, List.forall_mem_cons.mpr ⟨lw_p57, List.forall_mem_cons.mpr ⟨lw_p58, List.forall_mem_cons.mpr ⟨lw_p59, List.forall_mem_cons.mpr ⟨lw_p60, List.forall_mem_cons.mpr ⟨lw_p61, List.forall_mem_cons.mpr ⟨lw_p62, List.forall_mem_cons.mpr ⟨lw_p63, fun _ h => absurd h List.not_mem_nil⟩⟩⟩⟩⟩⟩⟩⟩⟩⟩⟩⟩⟩⟩⟩⟩
theorem lw_p64 : lw_okq (⟨"HouseClapsModel", "night", "(I)V"⟩, 69) := ⟨⟨by decide +kernel, by decide +kernel⟩, lw_t7 (List.mem_of_getElem? (i := 159) rfl), lw_t9 (List.mem_of_getElem? (i := 93) rfl), lw_t9 (List.mem_of_getElem? (i := 94) rfl)⟩
theorem lw_p65 : lw_okq (⟨"HouseClapsModel", "begin", "(JJ)V"⟩, 69) := ⟨⟨by decide +kernel, by decide +kernel⟩, lw_t7 (List.mem_of_getElem? (i := 159) rfl), lw_t9 (List.mem_of_getElem? (i := 97) rfl), lw_t9 (List.mem_of_getElem? (i := 98) rfl)⟩
theorem lw_p66 : lw_okq (⟨"HouseClapsModel", "layOut", "()V"⟩, 69) := ⟨⟨by decide +kernel, by decide +kernel⟩, lw_t7 (List.mem_of_getElem? (i := 159) rfl), lw_t9 (List.mem_of_getElem? (i := 101) rfl), lw_t9 (List.mem_of_getElem? (i := 102) rfl)⟩
theorem lw_p67 : lw_okq (⟨"HouseClapsModel", "bitAt", "(II)J"⟩, 69) := ⟨⟨by decide +kernel, by decide +kernel⟩, lw_t7 (List.mem_of_getElem? (i := 159) rfl), lw_t9 (List.mem_of_getElem? (i := 105) rfl), lw_t9 (List.mem_of_getElem? (i := 106) rfl)⟩
theorem lw_p68 : lw_okq (⟨"HouseClapsModel", "moment", "()V"⟩, 69) := ⟨⟨by decide +kernel, by decide +kernel⟩, lw_t7 (List.mem_of_getElem? (i := 159) rfl), lw_t9 (List.mem_of_getElem? (i := 109) rfl), lw_t9 (List.mem_of_getElem? (i := 110) rfl)⟩
theorem lw_p69 : lw_okq (⟨"HouseClapsModel", "levelOf", "(I)I"⟩, 69) := ⟨⟨by decide +kernel, by decide +kernel⟩, lw_t7 (List.mem_of_getElem? (i := 159) rfl), lw_t9 (List.mem_of_getElem? (i := 113) rfl), lw_t9 (List.mem_of_getElem? (i := 114) rfl)⟩
theorem lw_p70 : lw_okq (⟨"HouseClapsModel", "heldOf", "(I)I"⟩, 69) := ⟨⟨by decide +kernel, by decide +kernel⟩, lw_t7 (List.mem_of_getElem? (i := 159) rfl), lw_t9 (List.mem_of_getElem? (i := 117) rfl), lw_t9 (List.mem_of_getElem? (i := 118) rfl)⟩
theorem lw_p71 : lw_okq (⟨"HouseClapsModel", "lawLevel", "(IJJII)I"⟩, 69) := ⟨⟨by decide +kernel, by decide +kernel⟩, lw_t7 (List.mem_of_getElem? (i := 159) rfl), lw_t9 (List.mem_of_getElem? (i := 121) rfl), lw_t9 (List.mem_of_getElem? (i := 122) rfl)⟩
theorem lw_p72 : lw_okq (⟨"HouseClapsModel", "isLaw", "(IIJJII)Z"⟩, 69) := ⟨⟨by decide +kernel, by decide +kernel⟩, lw_t7 (List.mem_of_getElem? (i := 159) rfl), lw_t9 (List.mem_of_getElem? (i := 125) rfl), lw_t9 (List.mem_of_getElem? (i := 126) rfl)⟩
theorem lw_p73 : lw_okq (⟨"HouseClapsModel", "isUp", "(I)Z"⟩, 69) := ⟨⟨by decide +kernel, by decide +kernel⟩, lw_t7 (List.mem_of_getElem? (i := 159) rfl), lw_t9 (List.mem_of_getElem? (i := 160) rfl), lw_t9 (List.mem_of_getElem? (i := 161) rfl)⟩
theorem lw_p74 : lw_okq (⟨"HouseClapsModel", "areLike", "(II)Z"⟩, 69) := ⟨⟨by decide +kernel, by decide +kernel⟩, lw_t7 (List.mem_of_getElem? (i := 159) rfl), lw_t9 (List.mem_of_getElem? (i := 172) rfl), lw_t9 (List.mem_of_getElem? (i := 173) rfl)⟩
theorem lw_p75 : lw_okq (⟨"HouseClapsModel", "height", "(JJ)I"⟩, 69) := ⟨⟨by decide +kernel, by decide +kernel⟩, lw_t7 (List.mem_of_getElem? (i := 159) rfl), lw_t9 (List.mem_of_getElem? (i := 180) rfl), lw_t9 (List.mem_of_getElem? (i := 181) rfl)⟩
theorem lw_p76 : lw_okq (⟨"HouseClapsModel", "areEight", "()Z"⟩, 69) := ⟨⟨by decide +kernel, by decide +kernel⟩, lw_t7 (List.mem_of_getElem? (i := 159) rfl), lw_t9 (List.mem_of_getElem? (i := 188) rfl), lw_t9 (List.mem_of_getElem? (i := 189) rfl)⟩
theorem lw_p77 : lw_okq (⟨"HouseClapsModel", "takesSeats", "(II)Z"⟩, 69) := ⟨⟨by decide +kernel, by decide +kernel⟩, lw_t7 (List.mem_of_getElem? (i := 159) rfl), lw_t9 (List.mem_of_getElem? (i := 192) rfl), lw_t9 (List.mem_of_getElem? (i := 193) rfl)⟩
theorem lw_p78 : lw_okq (⟨"HouseClapsModel", "bitsOf", "(I)J"⟩, 69) := ⟨⟨by decide +kernel, by decide +kernel⟩, lw_t7 (List.mem_of_getElem? (i := 159) rfl), lw_t9 (List.mem_of_getElem? (i := 197) rfl), lw_t9 (List.mem_of_getElem? (i := 198) rfl)⟩
theorem lw_p79 : lw_okq (⟨"HouseClapsModel", "isSketch", "(JI)Z"⟩, 69) := ⟨⟨by decide +kernel, by decide +kernel⟩, lw_t7 (List.mem_of_getElem? (i := 159) rfl), lw_t9 (List.mem_of_getElem? (i := 236) rfl), lw_t9 (List.mem_of_getElem? (i := 237) rfl)⟩
def lw_privs_5 : List (MethodName × Nat) := [(⟨"HouseClapsModel", "night", "(I)V"⟩, 69), (⟨"HouseClapsModel", "begin", "(JJ)V"⟩, 69), (⟨"HouseClapsModel", "layOut", "()V"⟩, 69), (⟨"HouseClapsModel", "bitAt", "(II)J"⟩, 69), (⟨"HouseClapsModel", "moment", "()V"⟩, 69), (⟨"HouseClapsModel", "levelOf", "(I)I"⟩, 69), (⟨"HouseClapsModel", "heldOf", "(I)I"⟩, 69), (⟨"HouseClapsModel", "lawLevel", "(IJJII)I"⟩, 69), (⟨"HouseClapsModel", "isLaw", "(IIJJII)Z"⟩, 69), (⟨"HouseClapsModel", "isUp", "(I)Z"⟩, 69), (⟨"HouseClapsModel", "areLike", "(II)Z"⟩, 69), (⟨"HouseClapsModel", "height", "(JJ)I"⟩, 69), (⟨"HouseClapsModel", "areEight", "()Z"⟩, 69), (⟨"HouseClapsModel", "takesSeats", "(II)Z"⟩, 69), (⟨"HouseClapsModel", "bitsOf", "(I)J"⟩, 69), (⟨"HouseClapsModel", "isSketch", "(JI)Z"⟩, 69)]
theorem lw_r5 : ∀ q ∈ lw_privs_5, lw_okq q := List.forall_mem_cons.mpr ⟨lw_p64, List.forall_mem_cons.mpr ⟨lw_p65, List.forall_mem_cons.mpr ⟨lw_p66, List.forall_mem_cons.mpr ⟨lw_p67, List.forall_mem_cons.mpr ⟨lw_p68, List.forall_mem_cons.mpr ⟨lw_p69, List.forall_mem_cons.mpr ⟨lw_p70, List.forall_mem_cons.mpr ⟨lw_p71, List.forall_mem_cons.mpr ⟨lw_p72, List.forall_mem_cons.mpr ⟨lw_p73, List.forall_mem_cons.mpr ⟨lw_p74, List.forall_mem_cons.mpr ⟨lw_p75, List.forall_mem_cons.mpr ⟨lw_p76, List.forall_mem_cons.mpr ⟨lw_p77, List.forall_mem_cons.mpr ⟨lw_p78, List.forall_mem_cons.mpr ⟨lw_p79, fun _ h => absurd h List.not_mem_nil⟩⟩⟩⟩⟩⟩⟩⟩⟩⟩⟩⟩⟩⟩⟩⟩
theorem lw_p80 : lw_okq (⟨"HouseClapsModel", "areUnlike", "(II)Z"⟩, 69) := ⟨⟨by decide +kernel, by decide +kernel⟩, lw_t7 (List.mem_of_getElem? (i := 159) rfl), lw_t10 (List.mem_of_getElem? (i := 12) rfl), lw_t10 (List.mem_of_getElem? (i := 13) rfl)⟩
theorem lw_p81 : lw_okq (⟨"HouseClapsModel", "change", "(II)V"⟩, 69) := ⟨⟨by decide +kernel, by decide +kernel⟩, lw_t7 (List.mem_of_getElem? (i := 159) rfl), lw_t10 (List.mem_of_getElem? (i := 16) rfl), lw_t10 (List.mem_of_getElem? (i := 17) rfl)⟩
theorem lw_p82 : lw_okq (⟨"HouseClapsModel", "arranges", "(I)Z"⟩, 69) := ⟨⟨by decide +kernel, by decide +kernel⟩, lw_t7 (List.mem_of_getElem? (i := 159) rfl), lw_t10 (List.mem_of_getElem? (i := 28) rfl), lw_t10 (List.mem_of_getElem? (i := 29) rfl)⟩
theorem lw_p83 : lw_okq (⟨"HouseClapsModel", "draw", "(I)I"⟩, 69) := ⟨⟨by decide +kernel, by decide +kernel⟩, lw_t7 (List.mem_of_getElem? (i := 159) rfl), lw_t10 (List.mem_of_getElem? (i := 48) rfl), lw_t10 (List.mem_of_getElem? (i := 49) rfl)⟩
def lw_privs_6 : List (MethodName × Nat) := [(⟨"HouseClapsModel", "areUnlike", "(II)Z"⟩, 69), (⟨"HouseClapsModel", "change", "(II)V"⟩, 69), (⟨"HouseClapsModel", "arranges", "(I)Z"⟩, 69), (⟨"HouseClapsModel", "draw", "(I)I"⟩, 69)]
theorem lw_r6 : ∀ q ∈ lw_privs_6, lw_okq q := List.forall_mem_cons.mpr ⟨lw_p80, List.forall_mem_cons.mpr ⟨lw_p81, List.forall_mem_cons.mpr ⟨lw_p82, List.forall_mem_cons.mpr ⟨lw_p83, fun _ h => absurd h List.not_mem_nil⟩⟩⟩⟩
def lw_privs : List (MethodName × Nat) := lw_privs_1 ++ (lw_privs_2 ++ (lw_privs_3 ++ (lw_privs_4 ++ (lw_privs_5 ++ (lw_privs_6)))))
def lw_tbl : List Cond := k2_sels lw_privs ++ tables_1
theorem lw_privs_ok : ∀ q ∈ lw_privs, lw_okq q := by
  show ∀ q ∈ lw_privs_1 ++ (lw_privs_2 ++ (lw_privs_3 ++ (lw_privs_4 ++ (lw_privs_5 ++ (lw_privs_6))))), lw_okq q
  exact List.forall_mem_append.mpr ⟨lw_r1, List.forall_mem_append.mpr ⟨lw_r2, List.forall_mem_append.mpr ⟨lw_r3, List.forall_mem_append.mpr ⟨lw_r4, List.forall_mem_append.mpr ⟨lw_r5, lw_r6⟩⟩⟩⟩⟩
-- ===== ONE list of words for every method: the tables' words that hold all through a run =====
def lw_all : List Cond := lw_tbl.filter goodWord
/-- a word of the tables by its place: claim/WORDS.tsv -/
theorem lw_w {w : Cond} (i : Nat) (h : lw_tbl[i]? = some w) (g : goodWord w = true) : w ∈ lw_all := List.mem_filter.mpr ⟨List.mem_of_getElem? h, g⟩
theorem lw_all_tbl {w : Cond} (h : w ∈ lw_all) : w ∈ lw_tbl := (List.mem_filter.mp h).1
theorem lw_self : GoodIn lw_all lw_all := fun w h => ⟨h, good_of_word (List.mem_filter.mp h).2⟩
/-- a class's field words, by their places -/
theorem lw_in (ws : List Cond) (ps : List Nat) (hp : ws = ps.filterMap (fun i => lw_tbl[i]?)) (hg : ws.all goodWord = true) : ∀ w ∈ ws, w ∈ lw_all := by
  intro w h
  have h1 := List.all_eq_true.mp hg w h
  rw [hp] at h
  obtain ⟨i, -, hi⟩ := List.mem_filterMap.mp h
  exact lw_w i hi h1
/-- the words of a contract for the method y with code b, L locals, answer r -/
abbrev ws_ (y : MethodName) (b : ByteArray) (L : Nat) (r : Option FieldType) : List Cond := Cond.code y b L r :: lw_all
theorem lw_meth {y : MethodName} {b : ByteArray} {L : Nat} {r : Option FieldType} (h : Cond.code y b L r ∈ lw_all) : GoodIn lw_all (ws_ y b L r) := by
  intro w hw
  rcases List.mem_cons.mp hw with e | e
  · rw [e]
    exact lw_self _ h
  · exact lw_self _ e
theorem lw_app {a c : List Cond} (ha : ∀ w ∈ a, w ∈ lw_all) (hc : GoodIn lw_all c) : GoodIn lw_all (a ++ c) := by
  intro w hw
  rcases List.mem_append.mp hw with e | e
  · exact lw_self w (ha w e)
  · exact hc w e
/-- what a call through an object asks: cwV n hts (lw_V ..) -/
theorem lw_V {own : String} {idx : Nat} {C : String} {y : MethodName} {b : ByteArray} {L : Nat} {r : Option FieldType} (h1 : Cond.methodLink own idx y ∈ lw_all) (h2 : Cond.instanceMethod y ∈ lw_all) (h3 : Cond.selects C y y ∈ lw_all) (h4 : Cond.initialized C ∈ lw_all) (h5 : Cond.code y b L r ∈ lw_all) : GoodIn lw_all (wsV own idx C y (ws_ y b L r)) := by
  refine lw_app ?_ (lw_meth h5)
  intro w hw
  simp only [List.mem_cons, List.not_mem_nil, or_false] at hw
  rcases hw with e | e | e | e
  · rw [e]; exact h1
  · rw [e]; exact h2
  · rw [e]; exact h3
  · rw [e]; exact h4
/-- what a static call asks: va_cwS n hts (lw_S ..) -/
theorem lw_S {own : String} {idx : Nat} {y : MethodName} {b : ByteArray} {L : Nat} {r : Option FieldType} (h1 : Cond.methodLink own idx y ∈ lw_all) (h2 : Cond.static y ∈ lw_all) (h3 : Cond.initialized y.cls ∈ lw_all) (h4 : Cond.code y b L r ∈ lw_all) : GoodIn lw_all (va_wsS own idx y (ws_ y b L r)) := by
  refine lw_app ?_ (lw_meth h4)
  intro w hw
  simp only [List.mem_cons, List.not_mem_nil, or_false] at hw
  rcases hw with e | e | e
  · rw [e]; exact h1
  · rw [e]; exact h2
  · rw [e]; exact h3
/-- the words of a contract for a method WITH HANDLERS (hh: its table) -/
abbrev wsW_ (y : MethodName) (b : ByteArray) (L : Nat) (r : Option FieldType) (hh : List (Nat × Nat × Nat × Nat)) : List Cond := Cond.codeWith y b L r hh :: lw_all
theorem lw_methW {y : MethodName} {b : ByteArray} {L : Nat} {r : Option FieldType} {hh : List (Nat × Nat × Nat × Nat)} (h : Cond.codeWith y b L r hh ∈ lw_all) : GoodIn lw_all (wsW_ y b L r hh) := by
  intro w hw
  rcases List.mem_cons.mp hw with e | e
  · rw [e]
    exact lw_self _ h
  · exact lw_self _ e
/-- any list of words by their places (lw_in), good -/
theorem lw_good {ws : List Cond} (h : ∀ w ∈ ws, w ∈ lw_all) : GoodIn lw_all ws := fun w hw => lw_self w (h w hw)
/-- what a call of a method with handlers asks: vx_cwVW n hts (lw_VW ..), vx_cwSW n hts (lw_SW ..) -/
theorem lw_VW {own : String} {idx : Nat} {C : String} {y : MethodName} {b : ByteArray} {L : Nat} {r : Option FieldType} {hh : List (Nat × Nat × Nat × Nat)} (h1 : Cond.methodLink own idx y ∈ lw_all) (h2 : Cond.instanceMethod y ∈ lw_all) (h3 : Cond.selects C y y ∈ lw_all) (h4 : Cond.initialized C ∈ lw_all) (h5 : Cond.codeWith y b L r hh ∈ lw_all) : GoodIn lw_all (wsV own idx C y (wsW_ y b L r hh)) := by
  refine lw_app ?_ (lw_methW h5)
  intro w hw
  simp only [List.mem_cons, List.not_mem_nil, or_false] at hw
  rcases hw with e | e | e | e
  · rw [e]; exact h1
  · rw [e]; exact h2
  · rw [e]; exact h3
  · rw [e]; exact h4
theorem lw_SW {own : String} {idx : Nat} {y : MethodName} {b : ByteArray} {L : Nat} {r : Option FieldType} {hh : List (Nat × Nat × Nat × Nat)} (h1 : Cond.methodLink own idx y ∈ lw_all) (h2 : Cond.static y ∈ lw_all) (h3 : Cond.initialized y.cls ∈ lw_all) (h4 : Cond.codeWith y b L r hh ∈ lw_all) : GoodIn lw_all (va_wsS own idx y (wsW_ y b L r hh)) := by
  refine lw_app ?_ (lw_methW h4)
  intro w hw
  simp only [List.mem_cons, List.not_mem_nil, or_false] at hw
  rcases hw with e | e | e
  · rw [e]; exact h1
  · rw [e]; exact h2
  · rw [e]; exact h3
/-- a word by its place in its run of the tables -/
theorem lw_at {r : List Cond} (hr : ∀ w ∈ r, w ∈ lw_tbl) {w : Cond} (i : Nat) (h : r[i]? = some w) : w ∈ lw_tbl := hr w (List.mem_of_getElem? h)
theorem lw_g {w : Cond} (h : w ∈ lw_tbl) (g : goodWord w = true) : w ∈ lw_all := List.mem_filter.mpr ⟨h, g⟩
theorem lw_ms : ∀ w ∈ k2_sels lw_privs, w ∈ lw_tbl := fun w h => show w ∈ k2_sels lw_privs ++ tables_1 from List.mem_append_left _ h
theorem lw_m1 : ∀ w ∈ tables_1_1, w ∈ lw_tbl := fun w h => show w ∈ k2_sels lw_privs ++ tables_1 from List.mem_append_right (k2_sels lw_privs) (show w ∈ tables_1 from List.mem_append_left _ h)
theorem lw_m2 : ∀ w ∈ tables_1_2, w ∈ lw_tbl := fun w h => show w ∈ k2_sels lw_privs ++ tables_1 from List.mem_append_right (k2_sels lw_privs) (show w ∈ tables_1 from List.mem_append_right _ (List.mem_append_left _ h))
theorem lw_m3 : ∀ w ∈ tables_1_3, w ∈ lw_tbl := fun w h => show w ∈ k2_sels lw_privs ++ tables_1 from List.mem_append_right (k2_sels lw_privs) (show w ∈ tables_1 from List.mem_append_right _ (List.mem_append_right _ (List.mem_append_left _ h)))
theorem lw_m4 : ∀ w ∈ tables_1_4, w ∈ lw_tbl := fun w h => show w ∈ k2_sels lw_privs ++ tables_1 from List.mem_append_right (k2_sels lw_privs) (show w ∈ tables_1 from List.mem_append_right _ (List.mem_append_right _ (List.mem_append_right _ (List.mem_append_left _ h))))
theorem lw_m5 : ∀ w ∈ tables_1_5, w ∈ lw_tbl := fun w h => show w ∈ k2_sels lw_privs ++ tables_1 from List.mem_append_right (k2_sels lw_privs) (show w ∈ tables_1 from List.mem_append_right _ (List.mem_append_right _ (List.mem_append_right _ (List.mem_append_right _ (List.mem_append_left _ h)))))
theorem lw_m6 : ∀ w ∈ tables_1_6, w ∈ lw_tbl := fun w h => show w ∈ k2_sels lw_privs ++ tables_1 from List.mem_append_right (k2_sels lw_privs) (show w ∈ tables_1 from List.mem_append_right _ (List.mem_append_right _ (List.mem_append_right _ (List.mem_append_right _ (List.mem_append_right _ (List.mem_append_left _ h))))))
theorem lw_m7 : ∀ w ∈ tables_1_7, w ∈ lw_tbl := fun w h => show w ∈ k2_sels lw_privs ++ tables_1 from List.mem_append_right (k2_sels lw_privs) (show w ∈ tables_1 from List.mem_append_right _ (List.mem_append_right _ (List.mem_append_right _ (List.mem_append_right _ (List.mem_append_right _ (List.mem_append_right _ (List.mem_append_left _ h)))))))
theorem lw_m8 : ∀ w ∈ tables_1_8, w ∈ lw_tbl := fun w h => show w ∈ k2_sels lw_privs ++ tables_1 from List.mem_append_right (k2_sels lw_privs) (show w ∈ tables_1 from List.mem_append_right _ (List.mem_append_right _ (List.mem_append_right _ (List.mem_append_right _ (List.mem_append_right _ (List.mem_append_right _ (List.mem_append_right _ (List.mem_append_left _ h))))))))
theorem lw_m9 : ∀ w ∈ tables_1_9, w ∈ lw_tbl := fun w h => show w ∈ k2_sels lw_privs ++ tables_1 from List.mem_append_right (k2_sels lw_privs) (show w ∈ tables_1 from List.mem_append_right _ (List.mem_append_right _ (List.mem_append_right _ (List.mem_append_right _ (List.mem_append_right _ (List.mem_append_right _ (List.mem_append_right _ (List.mem_append_right _ (List.mem_append_left _ h)))))))))
theorem lw_m10 : ∀ w ∈ tables_1_10, w ∈ lw_tbl := fun w h => show w ∈ k2_sels lw_privs ++ tables_1 from List.mem_append_right (k2_sels lw_privs) (show w ∈ tables_1 from List.mem_append_right _ (List.mem_append_right _ (List.mem_append_right _ (List.mem_append_right _ (List.mem_append_right _ (List.mem_append_right _ (List.mem_append_right _ (List.mem_append_right _ (List.mem_append_right _ h)))))))))
theorem qs0 : (Cond.selects "HouseClaps" ⟨"HouseClaps", "come", "(I)V"⟩ ⟨"HouseClaps", "come", "(I)V"⟩) ∈ lw_all := lw_g (lw_at lw_ms 0 rfl) rfl
theorem qs1 : (Cond.selects "HouseClaps" ⟨"HouseClaps", "take", "()I"⟩ ⟨"HouseClaps", "take", "()I"⟩) ∈ lw_all := lw_g (lw_at lw_ms 1 rfl) rfl
theorem qs2 : (Cond.selects "HouseClaps$HouseReader" ⟨"HouseClaps$HouseReader", "row", "()V"⟩ ⟨"HouseClaps$HouseReader", "row", "()V"⟩) ∈ lw_all := lw_g (lw_at lw_ms 2 rfl) rfl
theorem qs3 : (Cond.selects "java/lang/Throwable" ⟨"java/lang/Throwable", "fillInStackTrace", "(I)Ljava/lang/Throwable;"⟩ ⟨"java/lang/Throwable", "fillInStackTrace", "(I)Ljava/lang/Throwable;"⟩) ∈ lw_all := lw_g (lw_at lw_ms 3 rfl) rfl
theorem qs4 : (Cond.selects "HouseClaps$HouseReader" ⟨"HouseClaps$HouseReader", "law", "([LHouseClaps$Cond;I)V"⟩ ⟨"HouseClaps$HouseReader", "law", "([LHouseClaps$Cond;I)V"⟩) ∈ lw_all := lw_g (lw_at lw_ms 4 rfl) rfl
theorem qs5 : (Cond.selects "HouseClaps$HouseReader" ⟨"HouseClaps$HouseReader", "or", "()LHouseClaps$Cond;"⟩ ⟨"HouseClaps$HouseReader", "or", "()LHouseClaps$Cond;"⟩) ∈ lw_all := lw_g (lw_at lw_ms 5 rfl) rfl
theorem qs6 : (Cond.selects "HouseClaps$HouseReader" ⟨"HouseClaps$HouseReader", "and", "()LHouseClaps$Cond;"⟩ ⟨"HouseClaps$HouseReader", "and", "()LHouseClaps$Cond;"⟩) ∈ lw_all := lw_g (lw_at lw_ms 6 rfl) rfl
theorem qs7 : (Cond.selects "HouseClaps$HouseReader" ⟨"HouseClaps$HouseReader", "one", "()LHouseClaps$Cond;"⟩ ⟨"HouseClaps$HouseReader", "one", "()LHouseClaps$Cond;"⟩) ∈ lw_all := lw_g (lw_at lw_ms 7 rfl) rfl
theorem qs8 : (Cond.selects "HouseClaps$HouseReader" ⟨"HouseClaps$HouseReader", "areaAtHand", "()I"⟩ ⟨"HouseClaps$HouseReader", "areaAtHand", "()I"⟩) ∈ lw_all := lw_g (lw_at lw_ms 8 rfl) rfl
theorem qs9 : (Cond.selects "HouseClaps$HouseReader" ⟨"HouseClaps$HouseReader", "compare", "(IZ)LHouseClaps$Cond;"⟩ ⟨"HouseClaps$HouseReader", "compare", "(IZ)LHouseClaps$Cond;"⟩) ∈ lw_all := lw_g (lw_at lw_ms 9 rfl) rfl
theorem qs10 : (Cond.selects "HouseClaps$HouseReader" ⟨"HouseClaps$HouseReader", "rowTold", "(Z)I"⟩ ⟨"HouseClaps$HouseReader", "rowTold", "(Z)I"⟩) ∈ lw_all := lw_g (lw_at lw_ms 10 rfl) rfl
theorem qs11 : (Cond.selects "HouseClaps$HouseReader" ⟨"HouseClaps$HouseReader", "once", "()V"⟩ ⟨"HouseClaps$HouseReader", "once", "()V"⟩) ∈ lw_all := lw_g (lw_at lw_ms 11 rfl) rfl
theorem qs12 : (Cond.selects "HouseClaps$House" ⟨"HouseClaps$House", "see", "(IIII)V"⟩ ⟨"HouseClaps$House", "see", "(IIII)V"⟩) ∈ lw_all := lw_g (lw_at lw_ms 12 rfl) rfl
theorem qs13 : (Cond.selects "HouseClaps$CueReader" ⟨"HouseClaps$CueReader", "cue", "(I)LHouseClaps$Cue;"⟩ ⟨"HouseClaps$CueReader", "cue", "(I)LHouseClaps$Cue;"⟩) ∈ lw_all := lw_g (lw_at lw_ms 13 rfl) rfl
theorem qs14 : (Cond.selects "java/util/ArrayList" ⟨"java/util/ArrayList", "add", "(Ljava/lang/Object;[Ljava/lang/Object;I)V"⟩ ⟨"java/util/ArrayList", "add", "(Ljava/lang/Object;[Ljava/lang/Object;I)V"⟩) ∈ lw_all := lw_g (lw_at lw_ms 14 rfl) rfl
theorem qs15 : (Cond.selects "java/util/ArrayList" ⟨"java/util/ArrayList", "grow", "()[Ljava/lang/Object;"⟩ ⟨"java/util/ArrayList", "grow", "()[Ljava/lang/Object;"⟩) ∈ lw_all := lw_g (lw_at lw_ms 15 rfl) rfl
theorem qs16 : (Cond.selects "java/util/ArrayList" ⟨"java/util/ArrayList", "grow", "(I)[Ljava/lang/Object;"⟩ ⟨"java/util/ArrayList", "grow", "(I)[Ljava/lang/Object;"⟩) ∈ lw_all := lw_g (lw_at lw_ms 16 rfl) rfl
theorem qs17 : (Cond.selects "HouseClaps" ⟨"HouseClaps", "tonight", "()LHouseClaps$Night;"⟩ ⟨"HouseClaps", "tonight", "()LHouseClaps$Night;"⟩) ∈ lw_all := lw_g (lw_at lw_ms 17 rfl) rfl
theorem qs18 : (Cond.selects "HouseClaps$Night" ⟨"HouseClaps$Night", "cue", "()V"⟩ ⟨"HouseClaps$Night", "cue", "()V"⟩) ∈ lw_all := lw_g (lw_at lw_ms 18 rfl) rfl
theorem qs19 : (Cond.selects "HouseClaps$Night" ⟨"HouseClaps$Night", "forced", "(I)I"⟩ ⟨"HouseClaps$Night", "forced", "(I)I"⟩) ∈ lw_all := lw_g (lw_at lw_ms 19 rfl) rfl
theorem qs20 : (Cond.selects "HouseClaps$Night" ⟨"HouseClaps$Night", "count", "()V"⟩ ⟨"HouseClaps$Night", "count", "()V"⟩) ∈ lw_all := lw_g (lw_at lw_ms 20 rfl) rfl
theorem qs21 : (Cond.selects "HouseClaps$Night" ⟨"HouseClaps$Night", "go", "(I)V"⟩ ⟨"HouseClaps$Night", "go", "(I)V"⟩) ∈ lw_all := lw_g (lw_at lw_ms 21 rfl) rfl
theorem qs22 : (Cond.selects "HouseClaps$Night" ⟨"HouseClaps$Night", "likes", "(I)I"⟩ ⟨"HouseClaps$Night", "likes", "(I)I"⟩) ∈ lw_all := lw_g (lw_at lw_ms 22 rfl) rfl
theorem qs23 : (Cond.selects "HouseClaps" ⟨"HouseClaps", "quiet", "()I"⟩ ⟨"HouseClaps", "quiet", "()I"⟩) ∈ lw_all := lw_g (lw_at lw_ms 23 rfl) rfl
theorem qs24 : (Cond.selects "HouseClaps" ⟨"HouseClaps", "areLike", "(II)Z"⟩ ⟨"HouseClaps", "areLike", "(II)Z"⟩) ∈ lw_all := lw_g (lw_at lw_ms 24 rfl) rfl
theorem qs25 : (Cond.selects "HouseClaps" ⟨"HouseClaps", "heightOf", "(LHouseClaps$House;JJ)I"⟩ ⟨"HouseClaps", "heightOf", "(LHouseClaps$House;JJ)I"⟩) ∈ lw_all := lw_g (lw_at lw_ms 25 rfl) rfl
theorem qs26 : (Cond.selects "HouseClaps" ⟨"HouseClaps", "takesSeats", "(II[IJ)I"⟩ ⟨"HouseClaps", "takesSeats", "(II[IJ)I"⟩) ∈ lw_all := lw_g (lw_at lw_ms 26 rfl) rfl
theorem qs27 : (Cond.selects "HouseClaps" ⟨"HouseClaps", "byteAt", "(I)I"⟩ ⟨"HouseClaps", "byteAt", "(I)I"⟩) ∈ lw_all := lw_g (lw_at lw_ms 27 rfl) rfl
theorem qs28 : (Cond.selects "HouseClaps" ⟨"HouseClaps", "priceOf", "(I)I"⟩ ⟨"HouseClaps", "priceOf", "(I)I"⟩) ∈ lw_all := lw_g (lw_at lw_ms 28 rfl) rfl
theorem qs29 : (Cond.selects "HouseClaps" ⟨"HouseClaps", "handsOf", "(I)J"⟩ ⟨"HouseClaps", "handsOf", "(I)J"⟩) ∈ lw_all := lw_g (lw_at lw_ms 29 rfl) rfl
theorem qs30 : (Cond.selects "HouseClaps" ⟨"HouseClaps", "isCarried", "(LHouseClaps$House;J)Z"⟩ ⟨"HouseClaps", "isCarried", "(LHouseClaps$House;J)Z"⟩) ∈ lw_all := lw_g (lw_at lw_ms 30 rfl) rfl
theorem qs31 : (Cond.selects "HouseClaps" ⟨"HouseClaps", "isBare", "(I)Z"⟩ ⟨"HouseClaps", "isBare", "(I)Z"⟩) ∈ lw_all := lw_g (lw_at lw_ms 31 rfl) rfl
theorem qs32 : (Cond.selects "HouseClaps" ⟨"HouseClaps", "isLikeSketch", "(LHouseClaps$Night;)Z"⟩ ⟨"HouseClaps", "isLikeSketch", "(LHouseClaps$Night;)Z"⟩) ∈ lw_all := lw_g (lw_at lw_ms 32 rfl) rfl
theorem qs33 : (Cond.selects "HouseClaps" ⟨"HouseClaps", "draw", "(I)I"⟩ ⟨"HouseClaps", "draw", "(I)I"⟩) ∈ lw_all := lw_g (lw_at lw_ms 33 rfl) rfl
theorem qs34 : (Cond.selects "HouseClaps" ⟨"HouseClaps", "arrangeOnce", "(I)I"⟩ ⟨"HouseClaps", "arrangeOnce", "(I)I"⟩) ∈ lw_all := lw_g (lw_at lw_ms 34 rfl) rfl
theorem qs35 : (Cond.selects "HouseClapsModel" ⟨"HouseClapsModel", "four", "(I)V"⟩ ⟨"HouseClapsModel", "four", "(I)V"⟩) ∈ lw_all := lw_g (lw_at lw_ms 35 rfl) rfl
theorem qs36 : (Cond.selects "HouseClapsModel" ⟨"HouseClapsModel", "plainHouse", "()V"⟩ ⟨"HouseClapsModel", "plainHouse", "()V"⟩) ∈ lw_all := lw_g (lw_at lw_ms 36 rfl) rfl
theorem qs37 : (Cond.selects "HouseClapsModel" ⟨"HouseClapsModel", "taken", "(I)V"⟩ ⟨"HouseClapsModel", "taken", "(I)V"⟩) ∈ lw_all := lw_g (lw_at lw_ms 37 rfl) rfl
theorem qs38 : (Cond.selects "HouseClapsModel" ⟨"HouseClapsModel", "next", "()V"⟩ ⟨"HouseClapsModel", "next", "()V"⟩) ∈ lw_all := lw_g (lw_at lw_ms 38 rfl) rfl
theorem qs39 : (Cond.selects "HouseClapsModel" ⟨"HouseClapsModel", "peek", "()I"⟩ ⟨"HouseClapsModel", "peek", "()I"⟩) ∈ lw_all := lw_g (lw_at lw_ms 39 rfl) rfl
theorem qs40 : (Cond.selects "HouseClapsModel" ⟨"HouseClapsModel", "line", "()Z"⟩ ⟨"HouseClapsModel", "line", "()Z"⟩) ∈ lw_all := lw_g (lw_at lw_ms 40 rfl) rfl
theorem qs41 : (Cond.selects "HouseClapsModel" ⟨"HouseClapsModel", "isWord", "(J)Z"⟩ ⟨"HouseClapsModel", "isWord", "(J)Z"⟩) ∈ lw_all := lw_g (lw_at lw_ms 41 rfl) rfl
theorem qs42 : (Cond.selects "HouseClapsModel" ⟨"HouseClapsModel", "readRow", "()Z"⟩ ⟨"HouseClapsModel", "readRow", "()Z"⟩) ∈ lw_all := lw_g (lw_at lw_ms 42 rfl) rfl
theorem qs43 : (Cond.selects "HouseClapsModel" ⟨"HouseClapsModel", "bad", "(I)Z"⟩ ⟨"HouseClapsModel", "bad", "(I)Z"⟩) ∈ lw_all := lw_g (lw_at lw_ms 43 rfl) rfl
theorem qs44 : (Cond.selects "HouseClapsModel" ⟨"HouseClapsModel", "octet", "(I)I"⟩ ⟨"HouseClapsModel", "octet", "(I)I"⟩) ∈ lw_all := lw_g (lw_at lw_ms 44 rfl) rfl
theorem qs45 : (Cond.selects "HouseClapsModel" ⟨"HouseClapsModel", "readLaw", "(I)Z"⟩ ⟨"HouseClapsModel", "readLaw", "(I)Z"⟩) ∈ lw_all := lw_g (lw_at lw_ms 45 rfl) rfl
theorem qs46 : (Cond.selects "HouseClapsModel" ⟨"HouseClapsModel", "cond", "()Z"⟩ ⟨"HouseClapsModel", "cond", "()Z"⟩) ∈ lw_all := lw_g (lw_at lw_ms 46 rfl) rfl
theorem qs47 : (Cond.selects "HouseClapsModel" ⟨"HouseClapsModel", "one", "()Z"⟩ ⟨"HouseClapsModel", "one", "()Z"⟩) ∈ lw_all := lw_g (lw_at lw_ms 47 rfl) rfl
theorem qs48 : (Cond.selects "HouseClapsModel" ⟨"HouseClapsModel", "atom", "()I"⟩ ⟨"HouseClapsModel", "atom", "()I"⟩) ∈ lw_all := lw_g (lw_at lw_ms 48 rfl) rfl
theorem qs49 : (Cond.selects "HouseClapsModel" ⟨"HouseClapsModel", "isSign", "(I)Z"⟩ ⟨"HouseClapsModel", "isSign", "(I)Z"⟩) ∈ lw_all := lw_g (lw_at lw_ms 49 rfl) rfl
theorem qs50 : (Cond.selects "HouseClapsModel" ⟨"HouseClapsModel", "opened", "()I"⟩ ⟨"HouseClapsModel", "opened", "()I"⟩) ∈ lw_all := lw_g (lw_at lw_ms 50 rfl) rfl
theorem qs51 : (Cond.selects "HouseClapsModel" ⟨"HouseClapsModel", "asks", "(I)Z"⟩ ⟨"HouseClapsModel", "asks", "(I)Z"⟩) ∈ lw_all := lw_g (lw_at lw_ms 51 rfl) rfl
theorem qs52 : (Cond.selects "HouseClapsModel" ⟨"HouseClapsModel", "takes", "(II)Z"⟩ ⟨"HouseClapsModel", "takes", "(II)Z"⟩) ∈ lw_all := lw_g (lw_at lw_ms 52 rfl) rfl
theorem qs53 : (Cond.selects "HouseClapsModel" ⟨"HouseClapsModel", "write", "(I)V"⟩ ⟨"HouseClapsModel", "write", "(I)V"⟩) ∈ lw_all := lw_g (lw_at lw_ms 53 rfl) rfl
theorem qs54 : (Cond.selects "HouseClapsModel" ⟨"HouseClapsModel", "writeDown", "(I)V"⟩ ⟨"HouseClapsModel", "writeDown", "(I)V"⟩) ∈ lw_all := lw_g (lw_at lw_ms 54 rfl) rfl
theorem qs55 : (Cond.selects "HouseClapsModel" ⟨"HouseClapsModel", "isOpen", "()Z"⟩ ⟨"HouseClapsModel", "isOpen", "()Z"⟩) ∈ lw_all := lw_g (lw_at lw_ms 55 rfl) rfl
theorem qs56 : (Cond.selects "HouseClapsModel" ⟨"HouseClapsModel", "takesRow", "(I)Z"⟩ ⟨"HouseClapsModel", "takesRow", "(I)Z"⟩) ∈ lw_all := lw_g (lw_at lw_ms 56 rfl) rfl
theorem qs57 : (Cond.selects "HouseClapsModel" ⟨"HouseClapsModel", "once", "(IIII)Z"⟩ ⟨"HouseClapsModel", "once", "(IIII)Z"⟩) ∈ lw_all := lw_g (lw_at lw_ms 57 rfl) rfl
theorem qs58 : (Cond.selects "HouseClapsModel" ⟨"HouseClapsModel", "sign", "(I)Z"⟩ ⟨"HouseClapsModel", "sign", "(I)Z"⟩) ∈ lw_all := lw_g (lw_at lw_ms 58 rfl) rfl
theorem qs59 : (Cond.selects "HouseClapsModel" ⟨"HouseClapsModel", "isSeat", "(I)Z"⟩ ⟨"HouseClapsModel", "isSeat", "(I)Z"⟩) ∈ lw_all := lw_g (lw_at lw_ms 59 rfl) rfl
theorem qs60 : (Cond.selects "HouseClapsModel" ⟨"HouseClapsModel", "throwsIf", "(Z)Z"⟩ ⟨"HouseClapsModel", "throwsIf", "(Z)Z"⟩) ∈ lw_all := lw_g (lw_at lw_ms 60 rfl) rfl
theorem qs61 : (Cond.selects "HouseClapsModel" ⟨"HouseClapsModel", "price", "(I)I"⟩ ⟨"HouseClapsModel", "price", "(I)I"⟩) ∈ lw_all := lw_g (lw_at lw_ms 61 rfl) rfl
theorem qs62 : (Cond.selects "HouseClapsModel" ⟨"HouseClapsModel", "readCue", "()Z"⟩ ⟨"HouseClapsModel", "readCue", "()Z"⟩) ∈ lw_all := lw_g (lw_at lw_ms 62 rfl) rfl
theorem qs63 : (Cond.selects "HouseClapsModel" ⟨"HouseClapsModel", "isSeatAt", "(II)Z"⟩ ⟨"HouseClapsModel", "isSeatAt", "(II)Z"⟩) ∈ lw_all := lw_g (lw_at lw_ms 63 rfl) rfl
theorem qs64 : (Cond.selects "HouseClapsModel" ⟨"HouseClapsModel", "night", "(I)V"⟩ ⟨"HouseClapsModel", "night", "(I)V"⟩) ∈ lw_all := lw_g (lw_at lw_ms 64 rfl) rfl
theorem qs65 : (Cond.selects "HouseClapsModel" ⟨"HouseClapsModel", "begin", "(JJ)V"⟩ ⟨"HouseClapsModel", "begin", "(JJ)V"⟩) ∈ lw_all := lw_g (lw_at lw_ms 65 rfl) rfl
theorem qs66 : (Cond.selects "HouseClapsModel" ⟨"HouseClapsModel", "layOut", "()V"⟩ ⟨"HouseClapsModel", "layOut", "()V"⟩) ∈ lw_all := lw_g (lw_at lw_ms 66 rfl) rfl
theorem qs67 : (Cond.selects "HouseClapsModel" ⟨"HouseClapsModel", "bitAt", "(II)J"⟩ ⟨"HouseClapsModel", "bitAt", "(II)J"⟩) ∈ lw_all := lw_g (lw_at lw_ms 67 rfl) rfl
theorem qs68 : (Cond.selects "HouseClapsModel" ⟨"HouseClapsModel", "moment", "()V"⟩ ⟨"HouseClapsModel", "moment", "()V"⟩) ∈ lw_all := lw_g (lw_at lw_ms 68 rfl) rfl
theorem qs69 : (Cond.selects "HouseClapsModel" ⟨"HouseClapsModel", "levelOf", "(I)I"⟩ ⟨"HouseClapsModel", "levelOf", "(I)I"⟩) ∈ lw_all := lw_g (lw_at lw_ms 69 rfl) rfl
theorem qs70 : (Cond.selects "HouseClapsModel" ⟨"HouseClapsModel", "heldOf", "(I)I"⟩ ⟨"HouseClapsModel", "heldOf", "(I)I"⟩) ∈ lw_all := lw_g (lw_at lw_ms 70 rfl) rfl
theorem qs71 : (Cond.selects "HouseClapsModel" ⟨"HouseClapsModel", "lawLevel", "(IJJII)I"⟩ ⟨"HouseClapsModel", "lawLevel", "(IJJII)I"⟩) ∈ lw_all := lw_g (lw_at lw_ms 71 rfl) rfl
theorem qs72 : (Cond.selects "HouseClapsModel" ⟨"HouseClapsModel", "isLaw", "(IIJJII)Z"⟩ ⟨"HouseClapsModel", "isLaw", "(IIJJII)Z"⟩) ∈ lw_all := lw_g (lw_at lw_ms 72 rfl) rfl
theorem qs73 : (Cond.selects "HouseClapsModel" ⟨"HouseClapsModel", "isUp", "(I)Z"⟩ ⟨"HouseClapsModel", "isUp", "(I)Z"⟩) ∈ lw_all := lw_g (lw_at lw_ms 73 rfl) rfl
theorem qs74 : (Cond.selects "HouseClapsModel" ⟨"HouseClapsModel", "areLike", "(II)Z"⟩ ⟨"HouseClapsModel", "areLike", "(II)Z"⟩) ∈ lw_all := lw_g (lw_at lw_ms 74 rfl) rfl
theorem qs75 : (Cond.selects "HouseClapsModel" ⟨"HouseClapsModel", "height", "(JJ)I"⟩ ⟨"HouseClapsModel", "height", "(JJ)I"⟩) ∈ lw_all := lw_g (lw_at lw_ms 75 rfl) rfl
theorem qs76 : (Cond.selects "HouseClapsModel" ⟨"HouseClapsModel", "areEight", "()Z"⟩ ⟨"HouseClapsModel", "areEight", "()Z"⟩) ∈ lw_all := lw_g (lw_at lw_ms 76 rfl) rfl
theorem qs77 : (Cond.selects "HouseClapsModel" ⟨"HouseClapsModel", "takesSeats", "(II)Z"⟩ ⟨"HouseClapsModel", "takesSeats", "(II)Z"⟩) ∈ lw_all := lw_g (lw_at lw_ms 77 rfl) rfl
theorem qs78 : (Cond.selects "HouseClapsModel" ⟨"HouseClapsModel", "bitsOf", "(I)J"⟩ ⟨"HouseClapsModel", "bitsOf", "(I)J"⟩) ∈ lw_all := lw_g (lw_at lw_ms 78 rfl) rfl
theorem qs79 : (Cond.selects "HouseClapsModel" ⟨"HouseClapsModel", "isSketch", "(JI)Z"⟩ ⟨"HouseClapsModel", "isSketch", "(JI)Z"⟩) ∈ lw_all := lw_g (lw_at lw_ms 79 rfl) rfl
theorem qs80 : (Cond.selects "HouseClapsModel" ⟨"HouseClapsModel", "areUnlike", "(II)Z"⟩ ⟨"HouseClapsModel", "areUnlike", "(II)Z"⟩) ∈ lw_all := lw_g (lw_at lw_ms 80 rfl) rfl
theorem qs81 : (Cond.selects "HouseClapsModel" ⟨"HouseClapsModel", "change", "(II)V"⟩ ⟨"HouseClapsModel", "change", "(II)V"⟩) ∈ lw_all := lw_g (lw_at lw_ms 81 rfl) rfl
theorem qs82 : (Cond.selects "HouseClapsModel" ⟨"HouseClapsModel", "arranges", "(I)Z"⟩ ⟨"HouseClapsModel", "arranges", "(I)Z"⟩) ∈ lw_all := lw_g (lw_at lw_ms 82 rfl) rfl
theorem qs83 : (Cond.selects "HouseClapsModel" ⟨"HouseClapsModel", "draw", "(I)I"⟩ ⟨"HouseClapsModel", "draw", "(I)I"⟩) ∈ lw_all := lw_g (lw_at lw_ms 83 rfl) rfl
