-- ===== PART A: goes FIRST, ahead of the names: the tables' words, and 'selects' of the private methods out of them =====
/-- a private method of a class that the tables say can be made, by its rows of tables_1 -/
def lw_okq (q : MethodName × Nat) : Prop := (q.1.cls ≠ "java/lang/invoke/MethodHandle" ∧ q.1.cls ≠ "java/lang/invoke/VarHandle") ∧ Cond.instantiable q.1.cls q.2 ∈ tables_1 ∧ Cond.privateMethod q.1 ∈ tables_1 ∧ Cond.instanceMethod q.1 ∈ tables_1
set_option maxRecDepth 100000
theorem lw_t1 {w : Cond} (h : w ∈ tables_1_1) : w ∈ tables_1 := List.mem_append_left _ h
theorem lw_t2 {w : Cond} (h : w ∈ tables_1_2) : w ∈ tables_1 := List.mem_append_right _ (List.mem_append_left _ h)
theorem lw_t3 {w : Cond} (h : w ∈ tables_1_3) : w ∈ tables_1 := List.mem_append_right _ (List.mem_append_right _ (List.mem_append_left _ h))
theorem lw_t4 {w : Cond} (h : w ∈ tables_1_4) : w ∈ tables_1 := List.mem_append_right _ (List.mem_append_right _ (List.mem_append_right _ (List.mem_append_left _ h)))
theorem lw_t5 {w : Cond} (h : w ∈ tables_1_5) : w ∈ tables_1 := List.mem_append_right _ (List.mem_append_right _ (List.mem_append_right _ (List.mem_append_right _ (List.mem_append_left _ h))))
theorem lw_t6 {w : Cond} (h : w ∈ tables_1_6) : w ∈ tables_1 := List.mem_append_right _ (List.mem_append_right _ (List.mem_append_right _ (List.mem_append_right _ (List.mem_append_right _ (List.mem_append_left _ h)))))
theorem lw_t7 {w : Cond} (h : w ∈ tables_1_7) : w ∈ tables_1 := List.mem_append_right _ (List.mem_append_right _ (List.mem_append_right _ (List.mem_append_right _ (List.mem_append_right _ (List.mem_append_right _ h)))))
theorem lw_p0 : lw_okq (⟨"WhoseGlass$Reader", "statement", "()V"⟩, 6) := ⟨⟨by decide +kernel, by decide +kernel⟩, lw_t1 (List.mem_of_getElem? (i := 48) rfl), lw_t1 (List.mem_of_getElem? (i := 86) rfl), lw_t1 (List.mem_of_getElem? (i := 87) rfl)⟩
theorem lw_p1 : lw_okq (⟨"WhoseGlass$Reader", "sign", "()I"⟩, 6) := ⟨⟨by decide +kernel, by decide +kernel⟩, lw_t1 (List.mem_of_getElem? (i := 48) rfl), lw_t1 (List.mem_of_getElem? (i := 90) rfl), lw_t1 (List.mem_of_getElem? (i := 91) rfl)⟩
theorem lw_p2 : lw_okq (⟨"WhoseGlass$Reader", "readsDeeds", "(I[I)V"⟩, 6) := ⟨⟨by decide +kernel, by decide +kernel⟩, lw_t1 (List.mem_of_getElem? (i := 48) rfl), lw_t1 (List.mem_of_getElem? (i := 94) rfl), lw_t1 (List.mem_of_getElem? (i := 95) rfl)⟩
theorem lw_p3 : lw_okq (⟨"WhoseGlass$Reader", "digits", "([II)V"⟩, 6) := ⟨⟨by decide +kernel, by decide +kernel⟩, lw_t1 (List.mem_of_getElem? (i := 48) rfl), lw_t1 (List.mem_of_getElem? (i := 98) rfl), lw_t1 (List.mem_of_getElem? (i := 99) rfl)⟩
theorem lw_p4 : lw_okq (⟨"WhoseGlass$Reader", "digit", "()I"⟩, 6) := ⟨⟨by decide +kernel, by decide +kernel⟩, lw_t1 (List.mem_of_getElem? (i := 48) rfl), lw_t1 (List.mem_of_getElem? (i := 102) rfl), lw_t1 (List.mem_of_getElem? (i := 103) rfl)⟩
theorem lw_p5 : lw_okq (⟨"java/lang/NullPointerException", "getExtendedNPEMessage", "()Ljava/lang/String;"⟩, 8) := ⟨⟨by decide +kernel, by decide +kernel⟩, lw_t1 (List.mem_of_getElem? (i := 151) rfl), lw_t1 (List.mem_of_getElem? (i := 149) rfl), lw_t1 (List.mem_of_getElem? (i := 150) rfl)⟩
theorem lw_p6 : lw_okq (⟨"java/lang/Throwable", "fillInStackTrace", "(I)Ljava/lang/Throwable;"⟩, 6) := ⟨⟨by decide +kernel, by decide +kernel⟩, lw_t1 (List.mem_of_getElem? (i := 163) rfl), lw_t1 (List.mem_of_getElem? (i := 161) rfl), lw_t1 (List.mem_of_getElem? (i := 162) rfl)⟩
theorem lw_p7 : lw_okq (⟨"WhoseGlass", "comesAs", "(LWhoseGlass$Reader;I)Z"⟩, 7) := ⟨⟨by decide +kernel, by decide +kernel⟩, lw_t1 (List.mem_of_getElem? (i := 199) rfl), lw_t1 (List.mem_of_getElem? (i := 197) rfl), lw_t1 (List.mem_of_getElem? (i := 198) rfl)⟩
theorem lw_p8 : lw_okq (⟨"WhoseGlass$House", "goesOn", "(I)V"⟩, 22) := ⟨⟨by decide +kernel, by decide +kernel⟩, lw_t2 (List.mem_of_getElem? (i := 78) rfl), lw_t2 (List.mem_of_getElem? (i := 76) rfl), lw_t2 (List.mem_of_getElem? (i := 77) rfl)⟩
theorem lw_p9 : lw_okq (⟨"WhoseGlass$House", "nextPlace", "(I)I"⟩, 22) := ⟨⟨by decide +kernel, by decide +kernel⟩, lw_t2 (List.mem_of_getElem? (i := 78) rfl), lw_t2 (List.mem_of_getElem? (i := 81) rfl), lw_t2 (List.mem_of_getElem? (i := 82) rfl)⟩
theorem lw_p10 : lw_okq (⟨"WhoseGlass", "isSomeonesOwn", "(I)Z"⟩, 7) := ⟨⟨by decide +kernel, by decide +kernel⟩, lw_t1 (List.mem_of_getElem? (i := 199) rfl), lw_t3 (List.mem_of_getElem? (i := 55) rfl), lw_t3 (List.mem_of_getElem? (i := 56) rfl)⟩
theorem lw_p11 : lw_okq (⟨"WhoseGlass", "minds", "(I)V"⟩, 7) := ⟨⟨by decide +kernel, by decide +kernel⟩, lw_t1 (List.mem_of_getElem? (i := 199) rfl), lw_t3 (List.mem_of_getElem? (i := 70) rfl), lw_t3 (List.mem_of_getElem? (i := 71) rfl)⟩
theorem lw_p12 : lw_okq (⟨"WhoseGlass", "goes", "(I)V"⟩, 7) := ⟨⟨by decide +kernel, by decide +kernel⟩, lw_t1 (List.mem_of_getElem? (i := 199) rfl), lw_t3 (List.mem_of_getElem? (i := 74) rfl), lw_t3 (List.mem_of_getElem? (i := 75) rfl)⟩
theorem lw_p13 : lw_okq (⟨"WhoseGlass", "draw", "(I)I"⟩, 7) := ⟨⟨by decide +kernel, by decide +kernel⟩, lw_t1 (List.mem_of_getElem? (i := 199) rfl), lw_t3 (List.mem_of_getElem? (i := 130) rfl), lw_t3 (List.mem_of_getElem? (i := 131) rfl)⟩
theorem lw_p14 : lw_okq (⟨"WhoseGlassModel", "carryAll", "([IZ)V"⟩, 46) := ⟨⟨by decide +kernel, by decide +kernel⟩, lw_t5 (List.mem_of_getElem? (i := 54) rfl), lw_t5 (List.mem_of_getElem? (i := 208) rfl), lw_t5 (List.mem_of_getElem? (i := 209) rfl)⟩
theorem lw_p15 : lw_okq (⟨"WhoseGlassModel", "carry", "(I)I"⟩, 46) := ⟨⟨by decide +kernel, by decide +kernel⟩, lw_t5 (List.mem_of_getElem? (i := 54) rfl), lw_t5 (List.mem_of_getElem? (i := 212) rfl), lw_t5 (List.mem_of_getElem? (i := 213) rfl)⟩
def lw_privs_1 : List (MethodName × Nat) := [(⟨"WhoseGlass$Reader", "statement", "()V"⟩, 6), (⟨"WhoseGlass$Reader", "sign", "()I"⟩, 6), (⟨"WhoseGlass$Reader", "readsDeeds", "(I[I)V"⟩, 6), (⟨"WhoseGlass$Reader", "digits", "([II)V"⟩, 6), (⟨"WhoseGlass$Reader", "digit", "()I"⟩, 6), (⟨"java/lang/NullPointerException", "getExtendedNPEMessage", "()Ljava/lang/String;"⟩, 8), (⟨"java/lang/Throwable", "fillInStackTrace", "(I)Ljava/lang/Throwable;"⟩, 6), (⟨"WhoseGlass", "comesAs", "(LWhoseGlass$Reader;I)Z"⟩, 7), (⟨"WhoseGlass$House", "goesOn", "(I)V"⟩, 22), (⟨"WhoseGlass$House", "nextPlace", "(I)I"⟩, 22), (⟨"WhoseGlass", "isSomeonesOwn", "(I)Z"⟩, 7), (⟨"WhoseGlass", "minds", "(I)V"⟩, 7), (⟨"WhoseGlass", "goes", "(I)V"⟩, 7), (⟨"WhoseGlass", "draw", "(I)I"⟩, 7), (⟨"WhoseGlassModel", "carryAll", "([IZ)V"⟩, 46), (⟨"WhoseGlassModel", "carry", "(I)I"⟩, 46)]
theorem lw_r1 : ∀ q ∈ lw_privs_1, lw_okq q := List.forall_mem_cons.mpr ⟨lw_p0, List.forall_mem_cons.mpr ⟨lw_p1, List.forall_mem_cons.mpr ⟨lw_p2, List.forall_mem_cons.mpr ⟨lw_p3, List.forall_mem_cons.mpr ⟨lw_p4, List.forall_mem_cons.mpr ⟨lw_p5, List.forall_mem_cons.mpr ⟨lw_p6, List.forall_mem_cons.mpr ⟨lw_p7, List.forall_mem_cons.mpr ⟨lw_p8, List.forall_mem_cons.mpr ⟨lw_p9, List.forall_mem_cons.mpr ⟨lw_p10, List.forall_mem_cons.mpr ⟨lw_p11, List.forall_mem_cons.mpr ⟨lw_p12, List.forall_mem_cons.mpr ⟨lw_p13, List.forall_mem_cons.mpr ⟨lw_p14, List.forall_mem_cons.mpr ⟨lw_p15, fun _ h => absurd h List.not_mem_nil⟩⟩⟩⟩⟩⟩⟩⟩⟩⟩⟩⟩⟩⟩⟩⟩
theorem lw_p16 : lw_okq (⟨"WhoseGlassModel", "wrongSort", "(II)I"⟩, 46) := ⟨⟨by decide +kernel, by decide +kernel⟩, lw_t5 (List.mem_of_getElem? (i := 54) rfl), lw_t5 (List.mem_of_getElem? (i := 224) rfl), lw_t5 (List.mem_of_getElem? (i := 225) rfl)⟩
theorem lw_p17 : lw_okq (⟨"WhoseGlassModel", "wrongRow", "(I)I"⟩, 46) := ⟨⟨by decide +kernel, by decide +kernel⟩, lw_t5 (List.mem_of_getElem? (i := 54) rfl), lw_t5 (List.mem_of_getElem? (i := 228) rfl), lw_t5 (List.mem_of_getElem? (i := 229) rfl)⟩
theorem lw_p18 : lw_okq (⟨"WhoseGlassModel", "readStatement", "()V"⟩, 46) := ⟨⟨by decide +kernel, by decide +kernel⟩, lw_t5 (List.mem_of_getElem? (i := 54) rfl), lw_t5 (List.mem_of_getElem? (i := 236) rfl), lw_t5 (List.mem_of_getElem? (i := 237) rfl)⟩
theorem lw_p19 : lw_okq (⟨"WhoseGlassModel", "here", "()I"⟩, 46) := ⟨⟨by decide +kernel, by decide +kernel⟩, lw_t5 (List.mem_of_getElem? (i := 54) rfl), lw_t6 (List.mem_of_getElem? (i := 0) rfl), lw_t6 (List.mem_of_getElem? (i := 1) rfl)⟩
theorem lw_p20 : lw_okq (⟨"WhoseGlassModel", "readDigit", "()I"⟩, 46) := ⟨⟨by decide +kernel, by decide +kernel⟩, lw_t5 (List.mem_of_getElem? (i := 54) rfl), lw_t6 (List.mem_of_getElem? (i := 4) rfl), lw_t6 (List.mem_of_getElem? (i := 5) rfl)⟩
theorem lw_p21 : lw_okq (⟨"WhoseGlassModel", "readTwo", "()I"⟩, 46) := ⟨⟨by decide +kernel, by decide +kernel⟩, lw_t5 (List.mem_of_getElem? (i := 54) rfl), lw_t6 (List.mem_of_getElem? (i := 10) rfl), lw_t6 (List.mem_of_getElem? (i := 11) rfl)⟩
theorem lw_p22 : lw_okq (⟨"WhoseGlassModel", "open", "()V"⟩, 46) := ⟨⟨by decide +kernel, by decide +kernel⟩, lw_t5 (List.mem_of_getElem? (i := 54) rfl), lw_t6 (List.mem_of_getElem? (i := 14) rfl), lw_t6 (List.mem_of_getElem? (i := 15) rfl)⟩
theorem lw_p23 : lw_okq (⟨"WhoseGlassModel", "comesAll", "(I)Z"⟩, 46) := ⟨⟨by decide +kernel, by decide +kernel⟩, lw_t5 (List.mem_of_getElem? (i := 54) rfl), lw_t6 (List.mem_of_getElem? (i := 18) rfl), lw_t6 (List.mem_of_getElem? (i := 19) rfl)⟩
theorem lw_p24 : lw_okq (⟨"WhoseGlassModel", "glassComes", "(I)Z"⟩, 46) := ⟨⟨by decide +kernel, by decide +kernel⟩, lw_t5 (List.mem_of_getElem? (i := 54) rfl), lw_t6 (List.mem_of_getElem? (i := 22) rfl), lw_t6 (List.mem_of_getElem? (i := 23) rfl)⟩
theorem lw_p25 : lw_okq (⟨"WhoseGlassModel", "bring", "(IIII)I"⟩, 46) := ⟨⟨by decide +kernel, by decide +kernel⟩, lw_t5 (List.mem_of_getElem? (i := 54) rfl), lw_t6 (List.mem_of_getElem? (i := 26) rfl), lw_t6 (List.mem_of_getElem? (i := 27) rfl)⟩
theorem lw_p26 : lw_okq (⟨"WhoseGlassModel", "guestComes", "(I)Z"⟩, 46) := ⟨⟨by decide +kernel, by decide +kernel⟩, lw_t5 (List.mem_of_getElem? (i := 54) rfl), lw_t6 (List.mem_of_getElem? (i := 30) rfl), lw_t6 (List.mem_of_getElem? (i := 31) rfl)⟩
theorem lw_p27 : lw_okq (⟨"WhoseGlassModel", "holdComes", "(II)Z"⟩, 46) := ⟨⟨by decide +kernel, by decide +kernel⟩, lw_t5 (List.mem_of_getElem? (i := 54) rfl), lw_t6 (List.mem_of_getElem? (i := 34) rfl), lw_t6 (List.mem_of_getElem? (i := 35) rfl)⟩
theorem lw_p28 : lw_okq (⟨"WhoseGlassModel", "isGuest", "(I)Z"⟩, 46) := ⟨⟨by decide +kernel, by decide +kernel⟩, lw_t5 (List.mem_of_getElem? (i := 54) rfl), lw_t6 (List.mem_of_getElem? (i := 38) rfl), lw_t6 (List.mem_of_getElem? (i := 39) rfl)⟩
theorem lw_p29 : lw_okq (⟨"WhoseGlassModel", "isGlass", "(I)Z"⟩, 46) := ⟨⟨by decide +kernel, by decide +kernel⟩, lw_t5 (List.mem_of_getElem? (i := 54) rfl), lw_t6 (List.mem_of_getElem? (i := 42) rfl), lw_t6 (List.mem_of_getElem? (i := 43) rfl)⟩
theorem lw_p30 : lw_okq (⟨"WhoseGlassModel", "hold", "(II)V"⟩, 46) := ⟨⟨by decide +kernel, by decide +kernel⟩, lw_t5 (List.mem_of_getElem? (i := 54) rfl), lw_t6 (List.mem_of_getElem? (i := 46) rfl), lw_t6 (List.mem_of_getElem? (i := 47) rfl)⟩
theorem lw_p31 : lw_okq (⟨"WhoseGlassModel", "minuteOn", "()V"⟩, 46) := ⟨⟨by decide +kernel, by decide +kernel⟩, lw_t5 (List.mem_of_getElem? (i := 54) rfl), lw_t6 (List.mem_of_getElem? (i := 50) rfl), lw_t6 (List.mem_of_getElem? (i := 51) rfl)⟩
def lw_privs_2 : List (MethodName × Nat) := [(⟨"WhoseGlassModel", "wrongSort", "(II)I"⟩, 46), (⟨"WhoseGlassModel", "wrongRow", "(I)I"⟩, 46), (⟨"WhoseGlassModel", "readStatement", "()V"⟩, 46), (⟨"WhoseGlassModel", "here", "()I"⟩, 46), (⟨"WhoseGlassModel", "readDigit", "()I"⟩, 46), (⟨"WhoseGlassModel", "readTwo", "()I"⟩, 46), (⟨"WhoseGlassModel", "open", "()V"⟩, 46), (⟨"WhoseGlassModel", "comesAll", "(I)Z"⟩, 46), (⟨"WhoseGlassModel", "glassComes", "(I)Z"⟩, 46), (⟨"WhoseGlassModel", "bring", "(IIII)I"⟩, 46), (⟨"WhoseGlassModel", "guestComes", "(I)Z"⟩, 46), (⟨"WhoseGlassModel", "holdComes", "(II)Z"⟩, 46), (⟨"WhoseGlassModel", "isGuest", "(I)Z"⟩, 46), (⟨"WhoseGlassModel", "isGlass", "(I)Z"⟩, 46), (⟨"WhoseGlassModel", "hold", "(II)V"⟩, 46), (⟨"WhoseGlassModel", "minuteOn", "()V"⟩, 46)]
theorem lw_r2 : ∀ q ∈ lw_privs_2, lw_okq q := List.forall_mem_cons.mpr ⟨lw_p16, List.forall_mem_cons.mpr ⟨lw_p17, List.forall_mem_cons.mpr ⟨lw_p18, List.forall_mem_cons.mpr ⟨lw_p19, List.forall_mem_cons.mpr ⟨lw_p20, List.forall_mem_cons.mpr ⟨lw_p21, List.forall_mem_cons.mpr ⟨lw_p22, List.forall_mem_cons.mpr ⟨lw_p23, List.forall_mem_cons.mpr ⟨lw_p24, List.forall_mem_cons.mpr ⟨lw_p25, List.forall_mem_cons.mpr ⟨lw_p26, List.forall_mem_cons.mpr ⟨lw_p27, List.forall_mem_cons.mpr ⟨lw_p28, List.forall_mem_cons.mpr ⟨lw_p29, List.forall_mem_cons.mpr ⟨lw_p30, List.forall_mem_cons.mpr ⟨lw_p31, fun _ h => absurd h List.not_mem_nil⟩⟩⟩⟩⟩⟩⟩⟩⟩⟩⟩⟩⟩⟩⟩⟩
theorem lw_p32 : lw_okq (⟨"WhoseGlassModel", "guestOn", "(I)V"⟩, 46) := ⟨⟨by decide +kernel, by decide +kernel⟩, lw_t5 (List.mem_of_getElem? (i := 54) rfl), lw_t6 (List.mem_of_getElem? (i := 54) rfl), lw_t6 (List.mem_of_getElem? (i := 55) rfl)⟩
theorem lw_p33 : lw_okq (⟨"WhoseGlassModel", "goOn", "(I)V"⟩, 46) := ⟨⟨by decide +kernel, by decide +kernel⟩, lw_t5 (List.mem_of_getElem? (i := 54) rfl), lw_t6 (List.mem_of_getElem? (i := 58) rfl), lw_t6 (List.mem_of_getElem? (i := 59) rfl)⟩
theorem lw_p34 : lw_okq (⟨"WhoseGlassModel", "takeOne", "(I)I"⟩, 46) := ⟨⟨by decide +kernel, by decide +kernel⟩, lw_t5 (List.mem_of_getElem? (i := 54) rfl), lw_t6 (List.mem_of_getElem? (i := 62) rfl), lw_t6 (List.mem_of_getElem? (i := 63) rfl)⟩
theorem lw_p35 : lw_okq (⟨"WhoseGlassModel", "wouldTake", "(I)I"⟩, 46) := ⟨⟨by decide +kernel, by decide +kernel⟩, lw_t5 (List.mem_of_getElem? (i := 54) rfl), lw_t6 (List.mem_of_getElem? (i := 66) rfl), lw_t6 (List.mem_of_getElem? (i := 67) rfl)⟩
theorem lw_p36 : lw_okq (⟨"WhoseGlassModel", "likeOf", "(II)I"⟩, 46) := ⟨⟨by decide +kernel, by decide +kernel⟩, lw_t5 (List.mem_of_getElem? (i := 54) rfl), lw_t6 (List.mem_of_getElem? (i := 70) rfl), lw_t6 (List.mem_of_getElem? (i := 71) rfl)⟩
theorem lw_p37 : lw_okq (⟨"WhoseGlassModel", "plainly", "(II)I"⟩, 46) := ⟨⟨by decide +kernel, by decide +kernel⟩, lw_t5 (List.mem_of_getElem? (i := 54) rfl), lw_t6 (List.mem_of_getElem? (i := 74) rfl), lw_t6 (List.mem_of_getElem? (i := 75) rfl)⟩
theorem lw_p38 : lw_okq (⟨"WhoseGlassModel", "tally", "(II)I"⟩, 46) := ⟨⟨by decide +kernel, by decide +kernel⟩, lw_t5 (List.mem_of_getElem? (i := 54) rfl), lw_t6 (List.mem_of_getElem? (i := 78) rfl), lw_t6 (List.mem_of_getElem? (i := 79) rfl)⟩
theorem lw_p39 : lw_okq (⟨"WhoseGlassModel", "redly", "(II)I"⟩, 46) := ⟨⟨by decide +kernel, by decide +kernel⟩, lw_t5 (List.mem_of_getElem? (i := 54) rfl), lw_t6 (List.mem_of_getElem? (i := 82) rfl), lw_t6 (List.mem_of_getElem? (i := 83) rfl)⟩
theorem lw_p40 : lw_okq (⟨"WhoseGlassModel", "isLater", "(II)Z"⟩, 46) := ⟨⟨by decide +kernel, by decide +kernel⟩, lw_t5 (List.mem_of_getElem? (i := 54) rfl), lw_t6 (List.mem_of_getElem? (i := 86) rfl), lw_t6 (List.mem_of_getElem? (i := 87) rfl)⟩
theorem lw_p41 : lw_okq (⟨"WhoseGlassModel", "sipOne", "(I)I"⟩, 46) := ⟨⟨by decide +kernel, by decide +kernel⟩, lw_t5 (List.mem_of_getElem? (i := 54) rfl), lw_t6 (List.mem_of_getElem? (i := 90) rfl), lw_t6 (List.mem_of_getElem? (i := 91) rfl)⟩
theorem lw_p42 : lw_okq (⟨"WhoseGlassModel", "strengthOf", "(I)I"⟩, 46) := ⟨⟨by decide +kernel, by decide +kernel⟩, lw_t5 (List.mem_of_getElem? (i := 54) rfl), lw_t6 (List.mem_of_getElem? (i := 94) rfl), lw_t6 (List.mem_of_getElem? (i := 95) rfl)⟩
theorem lw_p43 : lw_okq (⟨"WhoseGlassModel", "layOne", "(I)I"⟩, 46) := ⟨⟨by decide +kernel, by decide +kernel⟩, lw_t5 (List.mem_of_getElem? (i := 54) rfl), lw_t6 (List.mem_of_getElem? (i := 98) rfl), lw_t6 (List.mem_of_getElem? (i := 99) rfl)⟩
theorem lw_p44 : lw_okq (⟨"WhoseGlassModel", "again", "()V"⟩, 46) := ⟨⟨by decide +kernel, by decide +kernel⟩, lw_t5 (List.mem_of_getElem? (i := 54) rfl), lw_t6 (List.mem_of_getElem? (i := 102) rfl), lw_t6 (List.mem_of_getElem? (i := 103) rfl)⟩
theorem lw_p45 : lw_okq (⟨"WhoseGlassModel", "wrongKept", "(I)I"⟩, 46) := ⟨⟨by decide +kernel, by decide +kernel⟩, lw_t5 (List.mem_of_getElem? (i := 54) rfl), lw_t6 (List.mem_of_getElem? (i := 124) rfl), lw_t6 (List.mem_of_getElem? (i := 125) rfl)⟩
theorem lw_p46 : lw_okq (⟨"WhoseGlassModel", "sink", "(I)V"⟩, 46) := ⟨⟨by decide +kernel, by decide +kernel⟩, lw_t5 (List.mem_of_getElem? (i := 54) rfl), lw_t6 (List.mem_of_getElem? (i := 153) rfl), lw_t6 (List.mem_of_getElem? (i := 154) rfl)⟩
theorem lw_p47 : lw_okq (⟨"WhoseGlassModel", "goThrough", "(I)V"⟩, 46) := ⟨⟨by decide +kernel, by decide +kernel⟩, lw_t5 (List.mem_of_getElem? (i := 54) rfl), lw_t6 (List.mem_of_getElem? (i := 161) rfl), lw_t6 (List.mem_of_getElem? (i := 162) rfl)⟩
def lw_privs_3 : List (MethodName × Nat) := [(⟨"WhoseGlassModel", "guestOn", "(I)V"⟩, 46), (⟨"WhoseGlassModel", "goOn", "(I)V"⟩, 46), (⟨"WhoseGlassModel", "takeOne", "(I)I"⟩, 46), (⟨"WhoseGlassModel", "wouldTake", "(I)I"⟩, 46), (⟨"WhoseGlassModel", "likeOf", "(II)I"⟩, 46), (⟨"WhoseGlassModel", "plainly", "(II)I"⟩, 46), (⟨"WhoseGlassModel", "tally", "(II)I"⟩, 46), (⟨"WhoseGlassModel", "redly", "(II)I"⟩, 46), (⟨"WhoseGlassModel", "isLater", "(II)Z"⟩, 46), (⟨"WhoseGlassModel", "sipOne", "(I)I"⟩, 46), (⟨"WhoseGlassModel", "strengthOf", "(I)I"⟩, 46), (⟨"WhoseGlassModel", "layOne", "(I)I"⟩, 46), (⟨"WhoseGlassModel", "again", "()V"⟩, 46), (⟨"WhoseGlassModel", "wrongKept", "(I)I"⟩, 46), (⟨"WhoseGlassModel", "sink", "(I)V"⟩, 46), (⟨"WhoseGlassModel", "goThrough", "(I)V"⟩, 46)]
theorem lw_r3 : ∀ q ∈ lw_privs_3, lw_okq q := List.forall_mem_cons.mpr ⟨lw_p32, List.forall_mem_cons.mpr ⟨lw_p33, List.forall_mem_cons.mpr ⟨lw_p34, List.forall_mem_cons.mpr ⟨lw_p35, List.forall_mem_cons.mpr ⟨lw_p36, List.forall_mem_cons.mpr ⟨lw_p37, List.forall_mem_cons.mpr ⟨lw_p38, List.forall_mem_cons.mpr ⟨lw_p39, List.forall_mem_cons.mpr ⟨lw_p40, List.forall_mem_cons.mpr ⟨lw_p41, List.forall_mem_cons.mpr ⟨lw_p42, List.forall_mem_cons.mpr ⟨lw_p43, List.forall_mem_cons.mpr ⟨lw_p44, List.forall_mem_cons.mpr ⟨lw_p45, List.forall_mem_cons.mpr ⟨lw_p46, List.forall_mem_cons.mpr ⟨lw_p47, fun _ h => absurd h List.not_mem_nil⟩⟩⟩⟩⟩⟩⟩⟩⟩⟩⟩⟩⟩⟩⟩⟩
theorem lw_p48 : lw_okq (⟨"WhoseGlassModel", "coldBits", "()I"⟩, 46) := ⟨⟨by decide +kernel, by decide +kernel⟩, lw_t5 (List.mem_of_getElem? (i := 54) rfl), lw_t6 (List.mem_of_getElem? (i := 204) rfl), lw_t6 (List.mem_of_getElem? (i := 205) rfl)⟩
theorem lw_p49 : lw_okq (⟨"WhoseGlassModel", "coldAlone", "(I)V"⟩, 46) := ⟨⟨by decide +kernel, by decide +kernel⟩, lw_t5 (List.mem_of_getElem? (i := 54) rfl), lw_t6 (List.mem_of_getElem? (i := 220) rfl), lw_t6 (List.mem_of_getElem? (i := 221) rfl)⟩
theorem lw_p50 : lw_okq (⟨"WhoseGlassModel", "isSomeEmpty", "()Z"⟩, 46) := ⟨⟨by decide +kernel, by decide +kernel⟩, lw_t5 (List.mem_of_getElem? (i := 54) rfl), lw_t7 (List.mem_of_getElem? (i := 4) rfl), lw_t7 (List.mem_of_getElem? (i := 5) rfl)⟩
theorem lw_p51 : lw_okq (⟨"WhoseGlassModel", "draw", "(I)I"⟩, 46) := ⟨⟨by decide +kernel, by decide +kernel⟩, lw_t5 (List.mem_of_getElem? (i := 54) rfl), lw_t7 (List.mem_of_getElem? (i := 13) rfl), lw_t7 (List.mem_of_getElem? (i := 14) rfl)⟩
theorem lw_p52 : lw_okq (⟨"WhoseGlassModel", "skippedIn", "(I)J"⟩, 46) := ⟨⟨by decide +kernel, by decide +kernel⟩, lw_t5 (List.mem_of_getElem? (i := 54) rfl), lw_t7 (List.mem_of_getElem? (i := 24) rfl), lw_t7 (List.mem_of_getElem? (i := 25) rfl)⟩
def lw_privs_4 : List (MethodName × Nat) := [(⟨"WhoseGlassModel", "coldBits", "()I"⟩, 46), (⟨"WhoseGlassModel", "coldAlone", "(I)V"⟩, 46), (⟨"WhoseGlassModel", "isSomeEmpty", "()Z"⟩, 46), (⟨"WhoseGlassModel", "draw", "(I)I"⟩, 46), (⟨"WhoseGlassModel", "skippedIn", "(I)J"⟩, 46)]
theorem lw_r4 : ∀ q ∈ lw_privs_4, lw_okq q := List.forall_mem_cons.mpr ⟨lw_p48, List.forall_mem_cons.mpr ⟨lw_p49, List.forall_mem_cons.mpr ⟨lw_p50, List.forall_mem_cons.mpr ⟨lw_p51, List.forall_mem_cons.mpr ⟨lw_p52, fun _ h => absurd h List.not_mem_nil⟩⟩⟩⟩⟩
def lw_privs : List (MethodName × Nat) := lw_privs_1 ++ (lw_privs_2 ++ (lw_privs_3 ++ (lw_privs_4)))
def lw_tbl : List Cond := k2_sels lw_privs ++ tables_1
theorem lw_privs_ok : ∀ q ∈ lw_privs, lw_okq q := by
  show ∀ q ∈ lw_privs_1 ++ (lw_privs_2 ++ (lw_privs_3 ++ (lw_privs_4))), lw_okq q
  exact List.forall_mem_append.mpr ⟨lw_r1, List.forall_mem_append.mpr ⟨lw_r2, List.forall_mem_append.mpr ⟨lw_r3, lw_r4⟩⟩⟩
-- ===== ONE list of words for every method: the tables' words that hold all through a run =====
def lw_all : List Cond := lw_tbl.filter goodWord
/-- a word of the tables by its place: claim/WORDS.tsv -/
theorem lw_w {w : Cond} (i : Nat) (h : lw_tbl[i]? = some w) (g : goodWord w = true) : w ∈ lw_all := List.mem_filter.mpr ⟨List.mem_of_getElem? h, g⟩
theorem lw_all_tbl {w : Cond} (h : w ∈ lw_all) : w ∈ lw_tbl := (List.mem_filter.mp h).1
theorem lw_self : GoodIn lw_all lw_all := fun w h => ⟨h, good_of_word (List.mem_filter.mp h).2⟩
/-- a class's field words, by their places -/
theorem lw_in (ws : List Cond) (ps : List Nat) (hp : ws = ps.filterMap (fun i => lw_tbl[i]?)) (hg : ws.all goodWord = true) : ∀ w ∈ ws, w ∈ lw_all := by
  intro w h
  have h1 := List.all_eq_true.mp hg w h
  rw [hp] at h
  obtain ⟨i, -, hi⟩ := List.mem_filterMap.mp h
  exact lw_w i hi h1
/-- the words of a contract for the method y with code b, L locals, answer r -/
abbrev ws_ (y : MethodName) (b : ByteArray) (L : Nat) (r : Option FieldType) : List Cond := Cond.code y b L r :: lw_all
theorem lw_meth {y : MethodName} {b : ByteArray} {L : Nat} {r : Option FieldType} (h : Cond.code y b L r ∈ lw_all) : GoodIn lw_all (ws_ y b L r) := by
  intro w hw
  rcases List.mem_cons.mp hw with e | e
  · rw [e]
    exact lw_self _ h
  · exact lw_self _ e
theorem lw_app {a c : List Cond} (ha : ∀ w ∈ a, w ∈ lw_all) (hc : GoodIn lw_all c) : GoodIn lw_all (a ++ c) := by
  intro w hw
  rcases List.mem_append.mp hw with e | e
  · exact lw_self w (ha w e)
  · exact hc w e
/-- what a call through an object asks: cwV n hts (lw_V ..) -/
theorem lw_V {own : String} {idx : Nat} {C : String} {y : MethodName} {b : ByteArray} {L : Nat} {r : Option FieldType} (h1 : Cond.methodLink own idx y ∈ lw_all) (h2 : Cond.instanceMethod y ∈ lw_all) (h3 : Cond.selects C y y ∈ lw_all) (h4 : Cond.initialized C ∈ lw_all) (h5 : Cond.code y b L r ∈ lw_all) : GoodIn lw_all (wsV own idx C y (ws_ y b L r)) := by
  refine lw_app ?_ (lw_meth h5)
  intro w hw
  simp only [List.mem_cons, List.not_mem_nil, or_false] at hw
  rcases hw with e | e | e | e
  · rw [e]; exact h1
  · rw [e]; exact h2
  · rw [e]; exact h3
  · rw [e]; exact h4
/-- what a static call asks: va_cwS n hts (lw_S ..) -/
theorem lw_S {own : String} {idx : Nat} {y : MethodName} {b : ByteArray} {L : Nat} {r : Option FieldType} (h1 : Cond.methodLink own idx y ∈ lw_all) (h2 : Cond.static y ∈ lw_all) (h3 : Cond.initialized y.cls ∈ lw_all) (h4 : Cond.code y b L r ∈ lw_all) : GoodIn lw_all (va_wsS own idx y (ws_ y b L r)) := by
  refine lw_app ?_ (lw_meth h4)
  intro w hw
  simp only [List.mem_cons, List.not_mem_nil, or_false] at hw
  rcases hw with e | e | e
  · rw [e]; exact h1
  · rw [e]; exact h2
  · rw [e]; exact h3
/-- the words of a contract for a method WITH HANDLERS (hh: its table) -/
abbrev wsW_ (y : MethodName) (b : ByteArray) (L : Nat) (r : Option FieldType) (hh : List (Nat × Nat × Nat × Nat)) : List Cond := Cond.codeWith y b L r hh :: lw_all
theorem lw_methW {y : MethodName} {b : ByteArray} {L : Nat} {r : Option FieldType} {hh : List (Nat × Nat × Nat × Nat)} (h : Cond.codeWith y b L r hh ∈ lw_all) : GoodIn lw_all (wsW_ y b L r hh) := by
  intro w hw
  rcases List.mem_cons.mp hw with e | e
  · rw [e]
    exact lw_self _ h
  · exact lw_self _ e
/-- any list of words by their places (lw_in), good -/
theorem lw_good {ws : List Cond} (h : ∀ w ∈ ws, w ∈ lw_all) : GoodIn lw_all ws := fun w hw => lw_self w (h w hw)
/-- what a call of a method with handlers asks: vx_cwVW n hts (lw_VW ..), vx_cwSW n hts (lw_SW ..) -/
theorem lw_VW {own : String} {idx : Nat} {C : String} {y : MethodName} {b : ByteArray} {L : Nat} {r : Option FieldType} {hh : List (Nat × Nat × Nat × Nat)} (h1 : Cond.methodLink own idx y ∈ lw_all) (h2 : Cond.instanceMethod y ∈ lw_all) (h3 : Cond.selects C y y ∈ lw_all) (h4 : Cond.initialized C ∈ lw_all) (h5 : Cond.codeWith y b L r hh ∈ lw_all) : GoodIn lw_all (wsV own idx C y (wsW_ y b L r hh)) := by
  refine lw_app ?_ (lw_methW h5)
  intro w hw
  simp only [List.mem_cons, List.not_mem_nil, or_false] at hw
  rcases hw with e | e | e | e
  · rw [e]; exact h1
  · rw [e]; exact h2
  · rw [e]; exact h3
  · rw [e]; exact h4
theorem lw_SW {own : String} {idx : Nat} {y : MethodName} {b : ByteArray} {L : Nat} {r : Option FieldType} {hh : List (Nat × Nat × Nat × Nat)} (h1 : Cond.methodLink own idx y ∈ lw_all) (h2 : Cond.static y ∈ lw_all) (h3 : Cond.initialized y.cls ∈ lw_all) (h4 : Cond.codeWith y b L r hh ∈ lw_all) : GoodIn lw_all (va_wsS own idx y (wsW_ y b L r hh)) := by
  refine lw_app ?_ (lw_methW h4)
  intro w hw
  simp only [List.mem_cons, List.not_mem_nil, or_false] at hw
  rcases hw with e | e | e
  · rw [e]; exact h1
  · rw [e]; exact h2
  · rw [e]; exact h3
/-- a word by its place in its run of the tables -/
theorem lw_at {r : List Cond} (hr : ∀ w ∈ r, w ∈ lw_tbl) {w : Cond} (i : Nat) (h : r[i]? = some w) : w ∈ lw_tbl := hr w (List.mem_of_getElem? h)
theorem lw_g {w : Cond} (h : w ∈ lw_tbl) (g : goodWord w = true) : w ∈ lw_all := List.mem_filter.mpr ⟨h, g⟩
theorem lw_ms : ∀ w ∈ k2_sels lw_privs, w ∈ lw_tbl := fun w h => show w ∈ k2_sels lw_privs ++ tables_1 from List.mem_append_left _ h
theorem lw_m1 : ∀ w ∈ tables_1_1, w ∈ lw_tbl := fun w h => show w ∈ k2_sels lw_privs ++ tables_1 from List.mem_append_right (k2_sels lw_privs) (show w ∈ tables_1 from List.mem_append_left _ h)
theorem lw_m2 : ∀ w ∈ tables_1_2, w ∈ lw_tbl := fun w h => show w ∈ k2_sels lw_privs ++ tables_1 from List.mem_append_right (k2_sels lw_privs) (show w ∈ tables_1 from List.mem_append_right _ (List.mem_append_left _ h))
theorem lw_m3 : ∀ w ∈ tables_1_3, w ∈ lw_tbl := fun w h => show w ∈ k2_sels lw_privs ++ tables_1 from List.mem_append_right (k2_sels lw_privs) (show w ∈ tables_1 from List.mem_append_right _ (List.mem_append_right _ (List.mem_append_left _ h)))
theorem lw_m4 : ∀ w ∈ tables_1_4, w ∈ lw_tbl := fun w h => show w ∈ k2_sels lw_privs ++ tables_1 from List.mem_append_right (k2_sels lw_privs) (show w ∈ tables_1 from List.mem_append_right _ (List.mem_append_right _ (List.mem_append_right _ (List.mem_append_left _ h))))
theorem lw_m5 : ∀ w ∈ tables_1_5, w ∈ lw_tbl := fun w h => show w ∈ k2_sels lw_privs ++ tables_1 from List.mem_append_right (k2_sels lw_privs) (show w ∈ tables_1 from List.mem_append_right _ (List.mem_append_right _ (List.mem_append_right _ (List.mem_append_right _ (List.mem_append_left _ h)))))
theorem lw_m6 : ∀ w ∈ tables_1_6, w ∈ lw_tbl := fun w h => show w ∈ k2_sels lw_privs ++ tables_1 from List.mem_append_right (k2_sels lw_privs) (show w ∈ tables_1 from List.mem_append_right _ (List.mem_append_right _ (List.mem_append_right _ (List.mem_append_right _ (List.mem_append_right _ (List.mem_append_left _ h))))))
theorem lw_m7 : ∀ w ∈ tables_1_7, w ∈ lw_tbl := fun w h => show w ∈ k2_sels lw_privs ++ tables_1 from List.mem_append_right (k2_sels lw_privs) (show w ∈ tables_1 from List.mem_append_right _ (List.mem_append_right _ (List.mem_append_right _ (List.mem_append_right _ (List.mem_append_right _ (List.mem_append_right _ h))))))
theorem qs0 : (Cond.selects "WhoseGlass$Reader" ⟨"WhoseGlass$Reader", "statement", "()V"⟩ ⟨"WhoseGlass$Reader", "statement", "()V"⟩) ∈ lw_all := lw_g (lw_at lw_ms 0 rfl) rfl
theorem qs1 : (Cond.selects "WhoseGlass$Reader" ⟨"WhoseGlass$Reader", "sign", "()I"⟩ ⟨"WhoseGlass$Reader", "sign", "()I"⟩) ∈ lw_all := lw_g (lw_at lw_ms 1 rfl) rfl
theorem qs2 : (Cond.selects "WhoseGlass$Reader" ⟨"WhoseGlass$Reader", "readsDeeds", "(I[I)V"⟩ ⟨"WhoseGlass$Reader", "readsDeeds", "(I[I)V"⟩) ∈ lw_all := lw_g (lw_at lw_ms 2 rfl) rfl
theorem qs3 : (Cond.selects "WhoseGlass$Reader" ⟨"WhoseGlass$Reader", "digits", "([II)V"⟩ ⟨"WhoseGlass$Reader", "digits", "([II)V"⟩) ∈ lw_all := lw_g (lw_at lw_ms 3 rfl) rfl
theorem qs4 : (Cond.selects "WhoseGlass$Reader" ⟨"WhoseGlass$Reader", "digit", "()I"⟩ ⟨"WhoseGlass$Reader", "digit", "()I"⟩) ∈ lw_all := lw_g (lw_at lw_ms 4 rfl) rfl
theorem qs5 : (Cond.selects "java/lang/NullPointerException" ⟨"java/lang/NullPointerException", "getExtendedNPEMessage", "()Ljava/lang/String;"⟩ ⟨"java/lang/NullPointerException", "getExtendedNPEMessage", "()Ljava/lang/String;"⟩) ∈ lw_all := lw_g (lw_at lw_ms 5 rfl) rfl
theorem qs6 : (Cond.selects "java/lang/Throwable" ⟨"java/lang/Throwable", "fillInStackTrace", "(I)Ljava/lang/Throwable;"⟩ ⟨"java/lang/Throwable", "fillInStackTrace", "(I)Ljava/lang/Throwable;"⟩) ∈ lw_all := lw_g (lw_at lw_ms 6 rfl) rfl
theorem qs7 : (Cond.selects "WhoseGlass" ⟨"WhoseGlass", "comesAs", "(LWhoseGlass$Reader;I)Z"⟩ ⟨"WhoseGlass", "comesAs", "(LWhoseGlass$Reader;I)Z"⟩) ∈ lw_all := lw_g (lw_at lw_ms 7 rfl) rfl
theorem qs8 : (Cond.selects "WhoseGlass$House" ⟨"WhoseGlass$House", "goesOn", "(I)V"⟩ ⟨"WhoseGlass$House", "goesOn", "(I)V"⟩) ∈ lw_all := lw_g (lw_at lw_ms 8 rfl) rfl
theorem qs9 : (Cond.selects "WhoseGlass$House" ⟨"WhoseGlass$House", "nextPlace", "(I)I"⟩ ⟨"WhoseGlass$House", "nextPlace", "(I)I"⟩) ∈ lw_all := lw_g (lw_at lw_ms 9 rfl) rfl
theorem qs10 : (Cond.selects "WhoseGlass" ⟨"WhoseGlass", "isSomeonesOwn", "(I)Z"⟩ ⟨"WhoseGlass", "isSomeonesOwn", "(I)Z"⟩) ∈ lw_all := lw_g (lw_at lw_ms 10 rfl) rfl
theorem qs11 : (Cond.selects "WhoseGlass" ⟨"WhoseGlass", "minds", "(I)V"⟩ ⟨"WhoseGlass", "minds", "(I)V"⟩) ∈ lw_all := lw_g (lw_at lw_ms 11 rfl) rfl
theorem qs12 : (Cond.selects "WhoseGlass" ⟨"WhoseGlass", "goes", "(I)V"⟩ ⟨"WhoseGlass", "goes", "(I)V"⟩) ∈ lw_all := lw_g (lw_at lw_ms 12 rfl) rfl
theorem qs13 : (Cond.selects "WhoseGlass" ⟨"WhoseGlass", "draw", "(I)I"⟩ ⟨"WhoseGlass", "draw", "(I)I"⟩) ∈ lw_all := lw_g (lw_at lw_ms 13 rfl) rfl
theorem qs14 : (Cond.selects "WhoseGlassModel" ⟨"WhoseGlassModel", "carryAll", "([IZ)V"⟩ ⟨"WhoseGlassModel", "carryAll", "([IZ)V"⟩) ∈ lw_all := lw_g (lw_at lw_ms 14 rfl) rfl
theorem qs15 : (Cond.selects "WhoseGlassModel" ⟨"WhoseGlassModel", "carry", "(I)I"⟩ ⟨"WhoseGlassModel", "carry", "(I)I"⟩) ∈ lw_all := lw_g (lw_at lw_ms 15 rfl) rfl
theorem qs16 : (Cond.selects "WhoseGlassModel" ⟨"WhoseGlassModel", "wrongSort", "(II)I"⟩ ⟨"WhoseGlassModel", "wrongSort", "(II)I"⟩) ∈ lw_all := lw_g (lw_at lw_ms 16 rfl) rfl
theorem qs17 : (Cond.selects "WhoseGlassModel" ⟨"WhoseGlassModel", "wrongRow", "(I)I"⟩ ⟨"WhoseGlassModel", "wrongRow", "(I)I"⟩) ∈ lw_all := lw_g (lw_at lw_ms 17 rfl) rfl
theorem qs18 : (Cond.selects "WhoseGlassModel" ⟨"WhoseGlassModel", "readStatement", "()V"⟩ ⟨"WhoseGlassModel", "readStatement", "()V"⟩) ∈ lw_all := lw_g (lw_at lw_ms 18 rfl) rfl
theorem qs19 : (Cond.selects "WhoseGlassModel" ⟨"WhoseGlassModel", "here", "()I"⟩ ⟨"WhoseGlassModel", "here", "()I"⟩) ∈ lw_all := lw_g (lw_at lw_ms 19 rfl) rfl
theorem qs20 : (Cond.selects "WhoseGlassModel" ⟨"WhoseGlassModel", "readDigit", "()I"⟩ ⟨"WhoseGlassModel", "readDigit", "()I"⟩) ∈ lw_all := lw_g (lw_at lw_ms 20 rfl) rfl
theorem qs21 : (Cond.selects "WhoseGlassModel" ⟨"WhoseGlassModel", "readTwo", "()I"⟩ ⟨"WhoseGlassModel", "readTwo", "()I"⟩) ∈ lw_all := lw_g (lw_at lw_ms 21 rfl) rfl
theorem qs22 : (Cond.selects "WhoseGlassModel" ⟨"WhoseGlassModel", "open", "()V"⟩ ⟨"WhoseGlassModel", "open", "()V"⟩) ∈ lw_all := lw_g (lw_at lw_ms 22 rfl) rfl
theorem qs23 : (Cond.selects "WhoseGlassModel" ⟨"WhoseGlassModel", "comesAll", "(I)Z"⟩ ⟨"WhoseGlassModel", "comesAll", "(I)Z"⟩) ∈ lw_all := lw_g (lw_at lw_ms 23 rfl) rfl
theorem qs24 : (Cond.selects "WhoseGlassModel" ⟨"WhoseGlassModel", "glassComes", "(I)Z"⟩ ⟨"WhoseGlassModel", "glassComes", "(I)Z"⟩) ∈ lw_all := lw_g (lw_at lw_ms 24 rfl) rfl
theorem qs25 : (Cond.selects "WhoseGlassModel" ⟨"WhoseGlassModel", "bring", "(IIII)I"⟩ ⟨"WhoseGlassModel", "bring", "(IIII)I"⟩) ∈ lw_all := lw_g (lw_at lw_ms 25 rfl) rfl
theorem qs26 : (Cond.selects "WhoseGlassModel" ⟨"WhoseGlassModel", "guestComes", "(I)Z"⟩ ⟨"WhoseGlassModel", "guestComes", "(I)Z"⟩) ∈ lw_all := lw_g (lw_at lw_ms 26 rfl) rfl
theorem qs27 : (Cond.selects "WhoseGlassModel" ⟨"WhoseGlassModel", "holdComes", "(II)Z"⟩ ⟨"WhoseGlassModel", "holdComes", "(II)Z"⟩) ∈ lw_all := lw_g (lw_at lw_ms 27 rfl) rfl
theorem qs28 : (Cond.selects "WhoseGlassModel" ⟨"WhoseGlassModel", "isGuest", "(I)Z"⟩ ⟨"WhoseGlassModel", "isGuest", "(I)Z"⟩) ∈ lw_all := lw_g (lw_at lw_ms 28 rfl) rfl
theorem qs29 : (Cond.selects "WhoseGlassModel" ⟨"WhoseGlassModel", "isGlass", "(I)Z"⟩ ⟨"WhoseGlassModel", "isGlass", "(I)Z"⟩) ∈ lw_all := lw_g (lw_at lw_ms 29 rfl) rfl
theorem qs30 : (Cond.selects "WhoseGlassModel" ⟨"WhoseGlassModel", "hold", "(II)V"⟩ ⟨"WhoseGlassModel", "hold", "(II)V"⟩) ∈ lw_all := lw_g (lw_at lw_ms 30 rfl) rfl
theorem qs31 : (Cond.selects "WhoseGlassModel" ⟨"WhoseGlassModel", "minuteOn", "()V"⟩ ⟨"WhoseGlassModel", "minuteOn", "()V"⟩) ∈ lw_all := lw_g (lw_at lw_ms 31 rfl) rfl
theorem qs32 : (Cond.selects "WhoseGlassModel" ⟨"WhoseGlassModel", "guestOn", "(I)V"⟩ ⟨"WhoseGlassModel", "guestOn", "(I)V"⟩) ∈ lw_all := lw_g (lw_at lw_ms 32 rfl) rfl
theorem qs33 : (Cond.selects "WhoseGlassModel" ⟨"WhoseGlassModel", "goOn", "(I)V"⟩ ⟨"WhoseGlassModel", "goOn", "(I)V"⟩) ∈ lw_all := lw_g (lw_at lw_ms 33 rfl) rfl
theorem qs34 : (Cond.selects "WhoseGlassModel" ⟨"WhoseGlassModel", "takeOne", "(I)I"⟩ ⟨"WhoseGlassModel", "takeOne", "(I)I"⟩) ∈ lw_all := lw_g (lw_at lw_ms 34 rfl) rfl
theorem qs35 : (Cond.selects "WhoseGlassModel" ⟨"WhoseGlassModel", "wouldTake", "(I)I"⟩ ⟨"WhoseGlassModel", "wouldTake", "(I)I"⟩) ∈ lw_all := lw_g (lw_at lw_ms 35 rfl) rfl
theorem qs36 : (Cond.selects "WhoseGlassModel" ⟨"WhoseGlassModel", "likeOf", "(II)I"⟩ ⟨"WhoseGlassModel", "likeOf", "(II)I"⟩) ∈ lw_all := lw_g (lw_at lw_ms 36 rfl) rfl
theorem qs37 : (Cond.selects "WhoseGlassModel" ⟨"WhoseGlassModel", "plainly", "(II)I"⟩ ⟨"WhoseGlassModel", "plainly", "(II)I"⟩) ∈ lw_all := lw_g (lw_at lw_ms 37 rfl) rfl
theorem qs38 : (Cond.selects "WhoseGlassModel" ⟨"WhoseGlassModel", "tally", "(II)I"⟩ ⟨"WhoseGlassModel", "tally", "(II)I"⟩) ∈ lw_all := lw_g (lw_at lw_ms 38 rfl) rfl
theorem qs39 : (Cond.selects "WhoseGlassModel" ⟨"WhoseGlassModel", "redly", "(II)I"⟩ ⟨"WhoseGlassModel", "redly", "(II)I"⟩) ∈ lw_all := lw_g (lw_at lw_ms 39 rfl) rfl
theorem qs40 : (Cond.selects "WhoseGlassModel" ⟨"WhoseGlassModel", "isLater", "(II)Z"⟩ ⟨"WhoseGlassModel", "isLater", "(II)Z"⟩) ∈ lw_all := lw_g (lw_at lw_ms 40 rfl) rfl
theorem qs41 : (Cond.selects "WhoseGlassModel" ⟨"WhoseGlassModel", "sipOne", "(I)I"⟩ ⟨"WhoseGlassModel", "sipOne", "(I)I"⟩) ∈ lw_all := lw_g (lw_at lw_ms 41 rfl) rfl
theorem qs42 : (Cond.selects "WhoseGlassModel" ⟨"WhoseGlassModel", "strengthOf", "(I)I"⟩ ⟨"WhoseGlassModel", "strengthOf", "(I)I"⟩) ∈ lw_all := lw_g (lw_at lw_ms 42 rfl) rfl
theorem qs43 : (Cond.selects "WhoseGlassModel" ⟨"WhoseGlassModel", "layOne", "(I)I"⟩ ⟨"WhoseGlassModel", "layOne", "(I)I"⟩) ∈ lw_all := lw_g (lw_at lw_ms 43 rfl) rfl
theorem qs44 : (Cond.selects "WhoseGlassModel" ⟨"WhoseGlassModel", "again", "()V"⟩ ⟨"WhoseGlassModel", "again", "()V"⟩) ∈ lw_all := lw_g (lw_at lw_ms 44 rfl) rfl
theorem qs45 : (Cond.selects "WhoseGlassModel" ⟨"WhoseGlassModel", "wrongKept", "(I)I"⟩ ⟨"WhoseGlassModel", "wrongKept", "(I)I"⟩) ∈ lw_all := lw_g (lw_at lw_ms 45 rfl) rfl
theorem qs46 : (Cond.selects "WhoseGlassModel" ⟨"WhoseGlassModel", "sink", "(I)V"⟩ ⟨"WhoseGlassModel", "sink", "(I)V"⟩) ∈ lw_all := lw_g (lw_at lw_ms 46 rfl) rfl
theorem qs47 : (Cond.selects "WhoseGlassModel" ⟨"WhoseGlassModel", "goThrough", "(I)V"⟩ ⟨"WhoseGlassModel", "goThrough", "(I)V"⟩) ∈ lw_all := lw_g (lw_at lw_ms 47 rfl) rfl
theorem qs48 : (Cond.selects "WhoseGlassModel" ⟨"WhoseGlassModel", "coldBits", "()I"⟩ ⟨"WhoseGlassModel", "coldBits", "()I"⟩) ∈ lw_all := lw_g (lw_at lw_ms 48 rfl) rfl
theorem qs49 : (Cond.selects "WhoseGlassModel" ⟨"WhoseGlassModel", "coldAlone", "(I)V"⟩ ⟨"WhoseGlassModel", "coldAlone", "(I)V"⟩) ∈ lw_all := lw_g (lw_at lw_ms 49 rfl) rfl
theorem qs50 : (Cond.selects "WhoseGlassModel" ⟨"WhoseGlassModel", "isSomeEmpty", "()Z"⟩ ⟨"WhoseGlassModel", "isSomeEmpty", "()Z"⟩) ∈ lw_all := lw_g (lw_at lw_ms 50 rfl) rfl
theorem qs51 : (Cond.selects "WhoseGlassModel" ⟨"WhoseGlassModel", "draw", "(I)I"⟩ ⟨"WhoseGlassModel", "draw", "(I)I"⟩) ∈ lw_all := lw_g (lw_at lw_ms 51 rfl) rfl
theorem qs52 : (Cond.selects "WhoseGlassModel" ⟨"WhoseGlassModel", "skippedIn", "(I)J"⟩ ⟨"WhoseGlassModel", "skippedIn", "(I)J"⟩) ∈ lw_all := lw_g (lw_at lw_ms 52 rfl) rfl
