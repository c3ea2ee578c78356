-- ===== PART A: goes FIRST, ahead of the names: the tables' words, and 'selects' of the private methods out of them =====
/-- a private method of a class that the tables say can be made, by its rows of tables_1 -/
def lw_okq (q : MethodName × Nat) : Prop := (q.1.cls ≠ "java/lang/invoke/MethodHandle" ∧ q.1.cls ≠ "java/lang/invoke/VarHandle") ∧ Cond.instantiable q.1.cls q.2 ∈ tables_1 ∧ Cond.privateMethod q.1 ∈ tables_1 ∧ Cond.instanceMethod q.1 ∈ tables_1
set_option maxRecDepth 100000
theorem lw_t1 {w : Cond} (h : w ∈ tables_1_1) : w ∈ tables_1 := List.mem_append_left _ h
theorem lw_t2 {w : Cond} (h : w ∈ tables_1_2) : w ∈ tables_1 := List.mem_append_right _ (List.mem_append_left _ h)
theorem lw_t3 {w : Cond} (h : w ∈ tables_1_3) : w ∈ tables_1 := List.mem_append_right _ (List.mem_append_right _ (List.mem_append_left _ h))
theorem lw_t4 {w : Cond} (h : w ∈ tables_1_4) : w ∈ tables_1 := List.mem_append_right _ (List.mem_append_right _ (List.mem_append_right _ (List.mem_append_left _ h)))
theorem lw_t5 {w : Cond} (h : w ∈ tables_1_5) : w ∈ tables_1 := List.mem_append_right _ (List.mem_append_right _ (List.mem_append_right _ (List.mem_append_right _ (List.mem_append_left _ h))))
theorem lw_t6 {w : Cond} (h : w ∈ tables_1_6) : w ∈ tables_1 := List.mem_append_right _ (List.mem_append_right _ (List.mem_append_right _ (List.mem_append_right _ (List.mem_append_right _ (List.mem_append_left _ h)))))
theorem lw_t7 {w : Cond} (h : w ∈ tables_1_7) : w ∈ tables_1 := List.mem_append_right _ (List.mem_append_right _ (List.mem_append_right _ (List.mem_append_right _ (List.mem_append_right _ (List.mem_append_right _ h)))))
theorem lw_p0 : lw_okq (⟨"MaypoleGreen", "made", "(III)LMaypoleGreen$Dancer;"⟩, 30) := ⟨⟨by decide +kernel, by decide +kernel⟩, lw_t1 (List.mem_of_getElem? (i := 30) rfl), lw_t1 (List.mem_of_getElem? (i := 169) rfl), lw_t1 (List.mem_of_getElem? (i := 170) rfl)⟩
theorem lw_p1 : lw_okq (⟨"MaypoleGreen", "isPlace", "(I)Z"⟩, 30) := ⟨⟨by decide +kernel, by decide +kernel⟩, lw_t1 (List.mem_of_getElem? (i := 30) rfl), lw_t2 (List.mem_of_getElem? (i := 56) rfl), lw_t2 (List.mem_of_getElem? (i := 57) rfl)⟩
theorem lw_p2 : lw_okq (⟨"MaypoleGreen", "isPerson", "(I)Z"⟩, 30) := ⟨⟨by decide +kernel, by decide +kernel⟩, lw_t1 (List.mem_of_getElem? (i := 30) rfl), lw_t2 (List.mem_of_getElem? (i := 60) rfl), lw_t2 (List.mem_of_getElem? (i := 61) rfl)⟩
theorem lw_p3 : lw_okq (⟨"MaypoleGreen", "steps", "(I)I"⟩, 30) := ⟨⟨by decide +kernel, by decide +kernel⟩, lw_t1 (List.mem_of_getElem? (i := 30) rfl), lw_t2 (List.mem_of_getElem? (i := 88) rfl), lw_t2 (List.mem_of_getElem? (i := 89) rfl)⟩
theorem lw_p4 : lw_okq (⟨"MaypoleGreen$Round", "passes", "(II)V"⟩, 8) := ⟨⟨by decide +kernel, by decide +kernel⟩, lw_t2 (List.mem_of_getElem? (i := 9) rfl), lw_t2 (List.mem_of_getElem? (i := 104) rfl), lw_t2 (List.mem_of_getElem? (i := 105) rfl)⟩
theorem lw_p5 : lw_okq (⟨"MaypoleGreen$Round", "walks", "(I)V"⟩, 8) := ⟨⟨by decide +kernel, by decide +kernel⟩, lw_t2 (List.mem_of_getElem? (i := 9) rfl), lw_t2 (List.mem_of_getElem? (i := 108) rfl), lw_t2 (List.mem_of_getElem? (i := 109) rfl)⟩
theorem lw_p6 : lw_okq (⟨"MaypoleGreen", "moves", "([III)V"⟩, 30) := ⟨⟨by decide +kernel, by decide +kernel⟩, lw_t1 (List.mem_of_getElem? (i := 30) rfl), lw_t2 (List.mem_of_getElem? (i := 113) rfl), lw_t2 (List.mem_of_getElem? (i := 114) rfl)⟩
theorem lw_p7 : lw_okq (⟨"MaypoleGreen", "areLike", "(II)Z"⟩, 30) := ⟨⟨by decide +kernel, by decide +kernel⟩, lw_t1 (List.mem_of_getElem? (i := 30) rfl), lw_t2 (List.mem_of_getElem? (i := 147) rfl), lw_t2 (List.mem_of_getElem? (i := 148) rfl)⟩
theorem lw_p8 : lw_okq (⟨"MaypoleGreen", "wrongs", "([I)I"⟩, 30) := ⟨⟨by decide +kernel, by decide +kernel⟩, lw_t1 (List.mem_of_getElem? (i := 30) rfl), lw_t2 (List.mem_of_getElem? (i := 163) rfl), lw_t2 (List.mem_of_getElem? (i := 164) rfl)⟩
theorem lw_p9 : lw_okq (⟨"MaypoleGreen", "formOf", "(I)LMaypoleGreen$Form;"⟩, 30) := ⟨⟨by decide +kernel, by decide +kernel⟩, lw_t1 (List.mem_of_getElem? (i := 30) rfl), lw_t2 (List.mem_of_getElem? (i := 175) rfl), lw_t2 (List.mem_of_getElem? (i := 176) rfl)⟩
theorem lw_p10 : lw_okq (⟨"MaypoleGreen$Form", "comes", "(I)V"⟩, 4) := ⟨⟨by decide +kernel, by decide +kernel⟩, lw_t2 (List.mem_of_getElem? (i := 179) rfl), lw_t2 (List.mem_of_getElem? (i := 188) rfl), lw_t2 (List.mem_of_getElem? (i := 189) rfl)⟩
theorem lw_p11 : lw_okq (⟨"MaypoleGreen$Form", "areFar", "(II)Z"⟩, 4) := ⟨⟨by decide +kernel, by decide +kernel⟩, lw_t2 (List.mem_of_getElem? (i := 179) rfl), lw_t2 (List.mem_of_getElem? (i := 192) rfl), lw_t2 (List.mem_of_getElem? (i := 193) rfl)⟩
theorem lw_p12 : lw_okq (⟨"MaypoleGreen$Form", "orders", "()V"⟩, 4) := ⟨⟨by decide +kernel, by decide +kernel⟩, lw_t2 (List.mem_of_getElem? (i := 179) rfl), lw_t2 (List.mem_of_getElem? (i := 196) rfl), lw_t2 (List.mem_of_getElem? (i := 197) rfl)⟩
theorem lw_p13 : lw_okq (⟨"MaypoleGreen$Form", "goesAhead", "(II)Z"⟩, 4) := ⟨⟨by decide +kernel, by decide +kernel⟩, lw_t2 (List.mem_of_getElem? (i := 179) rfl), lw_t2 (List.mem_of_getElem? (i := 200) rfl), lw_t2 (List.mem_of_getElem? (i := 201) rfl)⟩
theorem lw_p14 : lw_okq (⟨"MaypoleGreen$Reader", "items", "()LMaypoleGreen$Figure;"⟩, 6) := ⟨⟨by decide +kernel, by decide +kernel⟩, lw_t3 (List.mem_of_getElem? (i := 1) rfl), lw_t3 (List.mem_of_getElem? (i := 30) rfl), lw_t3 (List.mem_of_getElem? (i := 31) rfl)⟩
theorem lw_p15 : lw_okq (⟨"MaypoleGreen$Reader", "isItem", "()Z"⟩, 6) := ⟨⟨by decide +kernel, by decide +kernel⟩, lw_t3 (List.mem_of_getElem? (i := 1) rfl), lw_t3 (List.mem_of_getElem? (i := 53) rfl), lw_t3 (List.mem_of_getElem? (i := 54) rfl)⟩
def lw_privs_1 : List (MethodName × Nat) := [(⟨"MaypoleGreen", "made", "(III)LMaypoleGreen$Dancer;"⟩, 30), (⟨"MaypoleGreen", "isPlace", "(I)Z"⟩, 30), (⟨"MaypoleGreen", "isPerson", "(I)Z"⟩, 30), (⟨"MaypoleGreen", "steps", "(I)I"⟩, 30), (⟨"MaypoleGreen$Round", "passes", "(II)V"⟩, 8), (⟨"MaypoleGreen$Round", "walks", "(I)V"⟩, 8), (⟨"MaypoleGreen", "moves", "([III)V"⟩, 30), (⟨"MaypoleGreen", "areLike", "(II)Z"⟩, 30), (⟨"MaypoleGreen", "wrongs", "([I)I"⟩, 30), (⟨"MaypoleGreen", "formOf", "(I)LMaypoleGreen$Form;"⟩, 30), (⟨"MaypoleGreen$Form", "comes", "(I)V"⟩, 4), (⟨"MaypoleGreen$Form", "areFar", "(II)Z"⟩, 4), (⟨"MaypoleGreen$Form", "orders", "()V"⟩, 4), (⟨"MaypoleGreen$Form", "goesAhead", "(II)Z"⟩, 4), (⟨"MaypoleGreen$Reader", "items", "()LMaypoleGreen$Figure;"⟩, 6), (⟨"MaypoleGreen$Reader", "isItem", "()Z"⟩, 6)]
theorem lw_r1 : ∀ q ∈ lw_privs_1, lw_okq q := List.forall_mem_cons.mpr ⟨lw_p0, List.forall_mem_cons.mpr ⟨lw_p1, List.forall_mem_cons.mpr ⟨lw_p2, List.forall_mem_cons.mpr ⟨lw_p3, List.forall_mem_cons.mpr ⟨lw_p4, List.forall_mem_cons.mpr ⟨lw_p5, List.forall_mem_cons.mpr ⟨lw_p6, List.forall_mem_cons.mpr ⟨lw_p7, List.forall_mem_cons.mpr ⟨lw_p8, List.forall_mem_cons.mpr ⟨lw_p9, List.forall_mem_cons.mpr ⟨lw_p10, List.forall_mem_cons.mpr ⟨lw_p11, List.forall_mem_cons.mpr ⟨lw_p12, List.forall_mem_cons.mpr ⟨lw_p13, List.forall_mem_cons.mpr ⟨lw_p14, List.forall_mem_cons.mpr ⟨lw_p15, fun _ h => absurd h List.not_mem_nil⟩⟩⟩⟩⟩⟩⟩⟩⟩⟩⟩⟩⟩⟩⟩⟩
theorem lw_p16 : lw_okq (⟨"MaypoleGreen$Reader", "here", "()I"⟩, 6) := ⟨⟨by decide +kernel, by decide +kernel⟩, lw_t3 (List.mem_of_getElem? (i := 1) rfl), lw_t3 (List.mem_of_getElem? (i := 57) rfl), lw_t3 (List.mem_of_getElem? (i := 58) rfl)⟩
theorem lw_p17 : lw_okq (⟨"MaypoleGreen$Reader", "off", "()LMaypoleGreen$Off;"⟩, 6) := ⟨⟨by decide +kernel, by decide +kernel⟩, lw_t3 (List.mem_of_getElem? (i := 1) rfl), lw_t3 (List.mem_of_getElem? (i := 62) rfl), lw_t3 (List.mem_of_getElem? (i := 63) rfl)⟩
theorem lw_p18 : lw_okq (⟨"java/lang/NullPointerException", "getExtendedNPEMessage", "()Ljava/lang/String;"⟩, 8) := ⟨⟨by decide +kernel, by decide +kernel⟩, lw_t3 (List.mem_of_getElem? (i := 108) rfl), lw_t3 (List.mem_of_getElem? (i := 106) rfl), lw_t3 (List.mem_of_getElem? (i := 107) rfl)⟩
theorem lw_p19 : lw_okq (⟨"java/lang/Throwable", "fillInStackTrace", "(I)Ljava/lang/Throwable;"⟩, 6) := ⟨⟨by decide +kernel, by decide +kernel⟩, lw_t3 (List.mem_of_getElem? (i := 120) rfl), lw_t3 (List.mem_of_getElem? (i := 118) rfl), lw_t3 (List.mem_of_getElem? (i := 119) rfl)⟩
theorem lw_p20 : lw_okq (⟨"MaypoleGreen$Reader", "item", "(LMaypoleGreen$Figure;)V"⟩, 6) := ⟨⟨by decide +kernel, by decide +kernel⟩, lw_t3 (List.mem_of_getElem? (i := 1) rfl), lw_t3 (List.mem_of_getElem? (i := 150) rfl), lw_t3 (List.mem_of_getElem? (i := 151) rfl)⟩
theorem lw_p21 : lw_okq (⟨"MaypoleGreen$Reader", "passes", "(LMaypoleGreen$Figure;)V"⟩, 6) := ⟨⟨by decide +kernel, by decide +kernel⟩, lw_t3 (List.mem_of_getElem? (i := 1) rfl), lw_t3 (List.mem_of_getElem? (i := 154) rfl), lw_t3 (List.mem_of_getElem? (i := 155) rfl)⟩
theorem lw_p22 : lw_okq (⟨"MaypoleGreen$Reader", "group", "(LMaypoleGreen$Figure;)V"⟩, 6) := ⟨⟨by decide +kernel, by decide +kernel⟩, lw_t3 (List.mem_of_getElem? (i := 1) rfl), lw_t3 (List.mem_of_getElem? (i := 162) rfl), lw_t3 (List.mem_of_getElem? (i := 163) rfl)⟩
theorem lw_p23 : lw_okq (⟨"MaypoleGreen", "isFigure", "(I)Z"⟩, 30) := ⟨⟨by decide +kernel, by decide +kernel⟩, lw_t1 (List.mem_of_getElem? (i := 30) rfl), lw_t3 (List.mem_of_getElem? (i := 182) rfl), lw_t3 (List.mem_of_getElem? (i := 183) rfl)⟩
theorem lw_p24 : lw_okq (⟨"MaypoleGreen", "gives", "(LMaypoleGreen$Figure;II)Z"⟩, 30) := ⟨⟨by decide +kernel, by decide +kernel⟩, lw_t1 (List.mem_of_getElem? (i := 30) rfl), lw_t3 (List.mem_of_getElem? (i := 194) rfl), lw_t3 (List.mem_of_getElem? (i := 195) rfl)⟩
theorem lw_p25 : lw_okq (⟨"MaypoleGreen", "isOfBut", "(LMaypoleGreen$Figure;I)Z"⟩, 30) := ⟨⟨by decide +kernel, by decide +kernel⟩, lw_t1 (List.mem_of_getElem? (i := 30) rfl), lw_t3 (List.mem_of_getElem? (i := 207) rfl), lw_t3 (List.mem_of_getElem? (i := 208) rfl)⟩
theorem lw_p26 : lw_okq (⟨"MaypoleGreen", "fewestTo", "([BI)I"⟩, 30) := ⟨⟨by decide +kernel, by decide +kernel⟩, lw_t1 (List.mem_of_getElem? (i := 30) rfl), lw_t4 (List.mem_of_getElem? (i := 25) rfl), lw_t4 (List.mem_of_getElem? (i := 26) rfl)⟩
theorem lw_p27 : lw_okq (⟨"MaypoleGreen$Orders", "puts", "(I)V"⟩, 4) := ⟨⟨by decide +kernel, by decide +kernel⟩, lw_t4 (List.mem_of_getElem? (i := 31) rfl), lw_t4 (List.mem_of_getElem? (i := 61) rfl), lw_t4 (List.mem_of_getElem? (i := 62) rfl)⟩
theorem lw_p28 : lw_okq (⟨"MaypoleGreen$Orders", "swaps", "(I)V"⟩, 4) := ⟨⟨by decide +kernel, by decide +kernel⟩, lw_t4 (List.mem_of_getElem? (i := 31) rfl), lw_t4 (List.mem_of_getElem? (i := 65) rfl), lw_t4 (List.mem_of_getElem? (i := 66) rfl)⟩
theorem lw_p29 : lw_okq (⟨"MaypoleGreen", "refuses", "(I)I"⟩, 30) := ⟨⟨by decide +kernel, by decide +kernel⟩, lw_t1 (List.mem_of_getElem? (i := 30) rfl), lw_t4 (List.mem_of_getElem? (i := 78) rfl), lw_t4 (List.mem_of_getElem? (i := 79) rfl)⟩
theorem lw_p30 : lw_okq (⟨"MaypoleGreen", "sets", "(I)V"⟩, 30) := ⟨⟨by decide +kernel, by decide +kernel⟩, lw_t1 (List.mem_of_getElem? (i := 30) rfl), lw_t4 (List.mem_of_getElem? (i := 88) rfl), lw_t4 (List.mem_of_getElem? (i := 89) rfl)⟩
theorem lw_p31 : lw_okq (⟨"MaypoleGreen", "puts", "(III)V"⟩, 30) := ⟨⟨by decide +kernel, by decide +kernel⟩, lw_t1 (List.mem_of_getElem? (i := 30) rfl), lw_t4 (List.mem_of_getElem? (i := 93) rfl), lw_t4 (List.mem_of_getElem? (i := 94) rfl)⟩
def lw_privs_2 : List (MethodName × Nat) := [(⟨"MaypoleGreen$Reader", "here", "()I"⟩, 6), (⟨"MaypoleGreen$Reader", "off", "()LMaypoleGreen$Off;"⟩, 6), (⟨"java/lang/NullPointerException", "getExtendedNPEMessage", "()Ljava/lang/String;"⟩, 8), (⟨"java/lang/Throwable", "fillInStackTrace", "(I)Ljava/lang/Throwable;"⟩, 6), (⟨"MaypoleGreen$Reader", "item", "(LMaypoleGreen$Figure;)V"⟩, 6), (⟨"MaypoleGreen$Reader", "passes", "(LMaypoleGreen$Figure;)V"⟩, 6), (⟨"MaypoleGreen$Reader", "group", "(LMaypoleGreen$Figure;)V"⟩, 6), (⟨"MaypoleGreen", "isFigure", "(I)Z"⟩, 30), (⟨"MaypoleGreen", "gives", "(LMaypoleGreen$Figure;II)Z"⟩, 30), (⟨"MaypoleGreen", "isOfBut", "(LMaypoleGreen$Figure;I)Z"⟩, 30), (⟨"MaypoleGreen", "fewestTo", "([BI)I"⟩, 30), (⟨"MaypoleGreen$Orders", "puts", "(I)V"⟩, 4), (⟨"MaypoleGreen$Orders", "swaps", "(I)V"⟩, 4), (⟨"MaypoleGreen", "refuses", "(I)I"⟩, 30), (⟨"MaypoleGreen", "sets", "(I)V"⟩, 30), (⟨"MaypoleGreen", "puts", "(III)V"⟩, 30)]
theorem lw_r2 : ∀ q ∈ lw_privs_2, lw_okq q := List.forall_mem_cons.mpr ⟨lw_p16, List.forall_mem_cons.mpr ⟨lw_p17, List.forall_mem_cons.mpr ⟨lw_p18, List.forall_mem_cons.mpr ⟨lw_p19, List.forall_mem_cons.mpr ⟨lw_p20, List.forall_mem_cons.mpr ⟨lw_p21, List.forall_mem_cons.mpr ⟨lw_p22, List.forall_mem_cons.mpr ⟨lw_p23, List.forall_mem_cons.mpr ⟨lw_p24, List.forall_mem_cons.mpr ⟨lw_p25, List.forall_mem_cons.mpr ⟨lw_p26, List.forall_mem_cons.mpr ⟨lw_p27, List.forall_mem_cons.mpr ⟨lw_p28, List.forall_mem_cons.mpr ⟨lw_p29, List.forall_mem_cons.mpr ⟨lw_p30, List.forall_mem_cons.mpr ⟨lw_p31, fun _ h => absurd h List.not_mem_nil⟩⟩⟩⟩⟩⟩⟩⟩⟩⟩⟩⟩⟩⟩⟩⟩
theorem lw_p32 : lw_okq (⟨"MaypoleGreen", "apart", "(II)I"⟩, 30) := ⟨⟨by decide +kernel, by decide +kernel⟩, lw_t1 (List.mem_of_getElem? (i := 30) rfl), lw_t4 (List.mem_of_getElem? (i := 97) rfl), lw_t4 (List.mem_of_getElem? (i := 98) rfl)⟩
theorem lw_p33 : lw_okq (⟨"MaypoleGreen$Tape", "has", "(I)V"⟩, 1) := ⟨⟨by decide +kernel, by decide +kernel⟩, lw_t1 (List.mem_of_getElem? (i := 60) rfl), lw_t4 (List.mem_of_getElem? (i := 239) rfl), lw_t5 (List.mem_of_getElem? (i := 0) rfl)⟩
theorem lw_p34 : lw_okq (⟨"MaypoleGreen$Tape", "size", "()I"⟩, 1) := ⟨⟨by decide +kernel, by decide +kernel⟩, lw_t1 (List.mem_of_getElem? (i := 60) rfl), lw_t5 (List.mem_of_getElem? (i := 5) rfl), lw_t5 (List.mem_of_getElem? (i := 6) rfl)⟩
theorem lw_p35 : lw_okq (⟨"MaypoleGreenModel", "in", "(III)Z"⟩, 61) := ⟨⟨by decide +kernel, by decide +kernel⟩, lw_t5 (List.mem_of_getElem? (i := 62) rfl), lw_t6 (List.mem_of_getElem? (i := 16) rfl), lw_t6 (List.mem_of_getElem? (i := 17) rfl)⟩
theorem lw_p36 : lw_okq (⟨"MaypoleGreenModel", "isPlace", "(I)Z"⟩, 61) := ⟨⟨by decide +kernel, by decide +kernel⟩, lw_t5 (List.mem_of_getElem? (i := 62) rfl), lw_t6 (List.mem_of_getElem? (i := 28) rfl), lw_t6 (List.mem_of_getElem? (i := 29) rfl)⟩
theorem lw_p37 : lw_okq (⟨"MaypoleGreenModel", "isPerson", "(I)Z"⟩, 61) := ⟨⟨by decide +kernel, by decide +kernel⟩, lw_t5 (List.mem_of_getElem? (i := 62) rfl), lw_t6 (List.mem_of_getElem? (i := 32) rfl), lw_t6 (List.mem_of_getElem? (i := 33) rfl)⟩
theorem lw_p38 : lw_okq (⟨"MaypoleGreenModel", "after", "(I)I"⟩, 61) := ⟨⟨by decide +kernel, by decide +kernel⟩, lw_t5 (List.mem_of_getElem? (i := 62) rfl), lw_t6 (List.mem_of_getElem? (i := 61) rfl), lw_t6 (List.mem_of_getElem? (i := 62) rfl)⟩
theorem lw_p39 : lw_okq (⟨"MaypoleGreenModel", "turn", "([II)V"⟩, 61) := ⟨⟨by decide +kernel, by decide +kernel⟩, lw_t5 (List.mem_of_getElem? (i := 62) rfl), lw_t6 (List.mem_of_getElem? (i := 70) rfl), lw_t6 (List.mem_of_getElem? (i := 71) rfl)⟩
theorem lw_p40 : lw_okq (⟨"MaypoleGreenModel", "topRibbon", "(II)I"⟩, 61) := ⟨⟨by decide +kernel, by decide +kernel⟩, lw_t5 (List.mem_of_getElem? (i := 62) rfl), lw_t6 (List.mem_of_getElem? (i := 86) rfl), lw_t6 (List.mem_of_getElem? (i := 87) rfl)⟩
theorem lw_p41 : lw_okq (⟨"MaypoleGreenModel", "ahead", "(I)I"⟩, 61) := ⟨⟨by decide +kernel, by decide +kernel⟩, lw_t5 (List.mem_of_getElem? (i := 62) rfl), lw_t6 (List.mem_of_getElem? (i := 90) rfl), lw_t6 (List.mem_of_getElem? (i := 91) rfl)⟩
theorem lw_p42 : lw_okq (⟨"MaypoleGreenModel", "areLike", "(II)Z"⟩, 61) := ⟨⟨by decide +kernel, by decide +kernel⟩, lw_t5 (List.mem_of_getElem? (i := 62) rfl), lw_t6 (List.mem_of_getElem? (i := 98) rfl), lw_t6 (List.mem_of_getElem? (i := 99) rfl)⟩
theorem lw_p43 : lw_okq (⟨"MaypoleGreenModel", "wrongWith", "([I)I"⟩, 61) := ⟨⟨by decide +kernel, by decide +kernel⟩, lw_t5 (List.mem_of_getElem? (i := 62) rfl), lw_t6 (List.mem_of_getElem? (i := 114) rfl), lw_t6 (List.mem_of_getElem? (i := 115) rfl)⟩
theorem lw_p44 : lw_okq (⟨"MaypoleGreenModel", "reads", "()Z"⟩, 61) := ⟨⟨by decide +kernel, by decide +kernel⟩, lw_t5 (List.mem_of_getElem? (i := 62) rfl), lw_t6 (List.mem_of_getElem? (i := 130) rfl), lw_t6 (List.mem_of_getElem? (i := 131) rfl)⟩
theorem lw_p45 : lw_okq (⟨"MaypoleGreenModel", "next", "()I"⟩, 61) := ⟨⟨by decide +kernel, by decide +kernel⟩, lw_t5 (List.mem_of_getElem? (i := 62) rfl), lw_t6 (List.mem_of_getElem? (i := 134) rfl), lw_t6 (List.mem_of_getElem? (i := 135) rfl)⟩
theorem lw_p46 : lw_okq (⟨"MaypoleGreenModel", "add", "(I)V"⟩, 61) := ⟨⟨by decide +kernel, by decide +kernel⟩, lw_t5 (List.mem_of_getElem? (i := 62) rfl), lw_t6 (List.mem_of_getElem? (i := 138) rfl), lw_t6 (List.mem_of_getElem? (i := 139) rfl)⟩
theorem lw_p47 : lw_okq (⟨"MaypoleGreenModel", "isFigure", "(I)Z"⟩, 61) := ⟨⟨by decide +kernel, by decide +kernel⟩, lw_t5 (List.mem_of_getElem? (i := 62) rfl), lw_t6 (List.mem_of_getElem? (i := 142) rfl), lw_t6 (List.mem_of_getElem? (i := 143) rfl)⟩
def lw_privs_3 : List (MethodName × Nat) := [(⟨"MaypoleGreen", "apart", "(II)I"⟩, 30), (⟨"MaypoleGreen$Tape", "has", "(I)V"⟩, 1), (⟨"MaypoleGreen$Tape", "size", "()I"⟩, 1), (⟨"MaypoleGreenModel", "in", "(III)Z"⟩, 61), (⟨"MaypoleGreenModel", "isPlace", "(I)Z"⟩, 61), (⟨"MaypoleGreenModel", "isPerson", "(I)Z"⟩, 61), (⟨"MaypoleGreenModel", "after", "(I)I"⟩, 61), (⟨"MaypoleGreenModel", "turn", "([II)V"⟩, 61), (⟨"MaypoleGreenModel", "topRibbon", "(II)I"⟩, 61), (⟨"MaypoleGreenModel", "ahead", "(I)I"⟩, 61), (⟨"MaypoleGreenModel", "areLike", "(II)Z"⟩, 61), (⟨"MaypoleGreenModel", "wrongWith", "([I)I"⟩, 61), (⟨"MaypoleGreenModel", "reads", "()Z"⟩, 61), (⟨"MaypoleGreenModel", "next", "()I"⟩, 61), (⟨"MaypoleGreenModel", "add", "(I)V"⟩, 61), (⟨"MaypoleGreenModel", "isFigure", "(I)Z"⟩, 61)]
theorem lw_r3 : ∀ q ∈ lw_privs_3, lw_okq q := List.forall_mem_cons.mpr ⟨lw_p32, List.forall_mem_cons.mpr ⟨lw_p33, List.forall_mem_cons.mpr ⟨lw_p34, List.forall_mem_cons.mpr ⟨lw_p35, List.forall_mem_cons.mpr ⟨lw_p36, List.forall_mem_cons.mpr ⟨lw_p37, List.forall_mem_cons.mpr ⟨lw_p38, List.forall_mem_cons.mpr ⟨lw_p39, List.forall_mem_cons.mpr ⟨lw_p40, List.forall_mem_cons.mpr ⟨lw_p41, List.forall_mem_cons.mpr ⟨lw_p42, List.forall_mem_cons.mpr ⟨lw_p43, List.forall_mem_cons.mpr ⟨lw_p44, List.forall_mem_cons.mpr ⟨lw_p45, List.forall_mem_cons.mpr ⟨lw_p46, List.forall_mem_cons.mpr ⟨lw_p47, fun _ h => absurd h List.not_mem_nil⟩⟩⟩⟩⟩⟩⟩⟩⟩⟩⟩⟩⟩⟩⟩⟩
theorem lw_p48 : lw_okq (⟨"MaypoleGreenModel", "repeat", "(II)V"⟩, 61) := ⟨⟨by decide +kernel, by decide +kernel⟩, lw_t5 (List.mem_of_getElem? (i := 62) rfl), lw_t6 (List.mem_of_getElem? (i := 146) rfl), lw_t6 (List.mem_of_getElem? (i := 147) rfl)⟩
theorem lw_p49 : lw_okq (⟨"MaypoleGreenModel", "undo", "(I)V"⟩, 61) := ⟨⟨by decide +kernel, by decide +kernel⟩, lw_t5 (List.mem_of_getElem? (i := 62) rfl), lw_t6 (List.mem_of_getElem? (i := 150) rfl), lw_t6 (List.mem_of_getElem? (i := 151) rfl)⟩
theorem lw_p50 : lw_okq (⟨"MaypoleGreenModel", "undoing", "(I)I"⟩, 61) := ⟨⟨by decide +kernel, by decide +kernel⟩, lw_t5 (List.mem_of_getElem? (i := 62) rfl), lw_t6 (List.mem_of_getElem? (i := 154) rfl), lw_t6 (List.mem_of_getElem? (i := 155) rfl)⟩
theorem lw_p51 : lw_okq (⟨"MaypoleGreenModel", "findForm", "(I)Z"⟩, 61) := ⟨⟨by decide +kernel, by decide +kernel⟩, lw_t5 (List.mem_of_getElem? (i := 62) rfl), lw_t6 (List.mem_of_getElem? (i := 172) rfl), lw_t6 (List.mem_of_getElem? (i := 173) rfl)⟩
theorem lw_p52 : lw_okq (⟨"MaypoleGreenModel", "stepsOf", "(I)I"⟩, 61) := ⟨⟨by decide +kernel, by decide +kernel⟩, lw_t5 (List.mem_of_getElem? (i := 62) rfl), lw_t6 (List.mem_of_getElem? (i := 176) rfl), lw_t6 (List.mem_of_getElem? (i := 177) rfl)⟩
theorem lw_p53 : lw_okq (⟨"MaypoleGreenModel", "stepOf", "(II)I"⟩, 61) := ⟨⟨by decide +kernel, by decide +kernel⟩, lw_t5 (List.mem_of_getElem? (i := 62) rfl), lw_t6 (List.mem_of_getElem? (i := 180) rfl), lw_t6 (List.mem_of_getElem? (i := 181) rfl)⟩
theorem lw_p54 : lw_okq (⟨"MaypoleGreenModel", "take", "(I)V"⟩, 61) := ⟨⟨by decide +kernel, by decide +kernel⟩, lw_t5 (List.mem_of_getElem? (i := 62) rfl), lw_t6 (List.mem_of_getElem? (i := 184) rfl), lw_t6 (List.mem_of_getElem? (i := 185) rfl)⟩
theorem lw_p55 : lw_okq (⟨"MaypoleGreenModel", "areFar", "(II)Z"⟩, 61) := ⟨⟨by decide +kernel, by decide +kernel⟩, lw_t5 (List.mem_of_getElem? (i := 62) rfl), lw_t6 (List.mem_of_getElem? (i := 188) rfl), lw_t6 (List.mem_of_getElem? (i := 189) rfl)⟩
theorem lw_p56 : lw_okq (⟨"MaypoleGreenModel", "abs", "(I)I"⟩, 61) := ⟨⟨by decide +kernel, by decide +kernel⟩, lw_t5 (List.mem_of_getElem? (i := 62) rfl), lw_t6 (List.mem_of_getElem? (i := 192) rfl), lw_t6 (List.mem_of_getElem? (i := 193) rfl)⟩
theorem lw_p57 : lw_okq (⟨"MaypoleGreenModel", "bringLeast", "(I)V"⟩, 61) := ⟨⟨by decide +kernel, by decide +kernel⟩, lw_t5 (List.mem_of_getElem? (i := 62) rfl), lw_t6 (List.mem_of_getElem? (i := 196) rfl), lw_t6 (List.mem_of_getElem? (i := 197) rfl)⟩
theorem lw_p58 : lw_okq (⟨"MaypoleGreenModel", "makes", "(III)Z"⟩, 61) := ⟨⟨by decide +kernel, by decide +kernel⟩, lw_t5 (List.mem_of_getElem? (i := 62) rfl), lw_t6 (List.mem_of_getElem? (i := 208) rfl), lw_t6 (List.mem_of_getElem? (i := 209) rfl)⟩
theorem lw_p59 : lw_okq (⟨"MaypoleGreenModel", "tryBegin", "()V"⟩, 61) := ⟨⟨by decide +kernel, by decide +kernel⟩, lw_t5 (List.mem_of_getElem? (i := 62) rfl), lw_t6 (List.mem_of_getElem? (i := 212) rfl), lw_t6 (List.mem_of_getElem? (i := 213) rfl)⟩
theorem lw_p60 : lw_okq (⟨"MaypoleGreenModel", "tryStep", "(I)Z"⟩, 61) := ⟨⟨by decide +kernel, by decide +kernel⟩, lw_t5 (List.mem_of_getElem? (i := 62) rfl), lw_t6 (List.mem_of_getElem? (i := 216) rfl), lw_t6 (List.mem_of_getElem? (i := 217) rfl)⟩
theorem lw_p61 : lw_okq (⟨"MaypoleGreenModel", "tryWalk", "(I)Z"⟩, 61) := ⟨⟨by decide +kernel, by decide +kernel⟩, lw_t5 (List.mem_of_getElem? (i := 62) rfl), lw_t6 (List.mem_of_getElem? (i := 220) rfl), lw_t6 (List.mem_of_getElem? (i := 221) rfl)⟩
theorem lw_p62 : lw_okq (⟨"MaypoleGreenModel", "tryPass", "(II)Z"⟩, 61) := ⟨⟨by decide +kernel, by decide +kernel⟩, lw_t5 (List.mem_of_getElem? (i := 62) rfl), lw_t6 (List.mem_of_getElem? (i := 224) rfl), lw_t6 (List.mem_of_getElem? (i := 225) rfl)⟩
theorem lw_p63 : lw_okq (⟨"MaypoleGreenModel", "isTape", "(I)Z"⟩, 61) := ⟨⟨by decide +kernel, by decide +kernel⟩, lw_t5 (List.mem_of_getElem? (i := 62) rfl), lw_t6 (List.mem_of_getElem? (i := 236) rfl), lw_t6 (List.mem_of_getElem? (i := 237) rfl)⟩
def lw_privs_4 : List (MethodName × Nat) := [(⟨"MaypoleGreenModel", "repeat", "(II)V"⟩, 61), (⟨"MaypoleGreenModel", "undo", "(I)V"⟩, 61), (⟨"MaypoleGreenModel", "undoing", "(I)I"⟩, 61), (⟨"MaypoleGreenModel", "findForm", "(I)Z"⟩, 61), (⟨"MaypoleGreenModel", "stepsOf", "(I)I"⟩, 61), (⟨"MaypoleGreenModel", "stepOf", "(II)I"⟩, 61), (⟨"MaypoleGreenModel", "take", "(I)V"⟩, 61), (⟨"MaypoleGreenModel", "areFar", "(II)Z"⟩, 61), (⟨"MaypoleGreenModel", "abs", "(I)I"⟩, 61), (⟨"MaypoleGreenModel", "bringLeast", "(I)V"⟩, 61), (⟨"MaypoleGreenModel", "makes", "(III)Z"⟩, 61), (⟨"MaypoleGreenModel", "tryBegin", "()V"⟩, 61), (⟨"MaypoleGreenModel", "tryStep", "(I)Z"⟩, 61), (⟨"MaypoleGreenModel", "tryWalk", "(I)Z"⟩, 61), (⟨"MaypoleGreenModel", "tryPass", "(II)Z"⟩, 61), (⟨"MaypoleGreenModel", "isTape", "(I)Z"⟩, 61)]
theorem lw_r4 : ∀ q ∈ lw_privs_4, lw_okq q := List.forall_mem_cons.mpr ⟨lw_p48, List.forall_mem_cons.mpr ⟨lw_p49, List.forall_mem_cons.mpr ⟨lw_p50, List.forall_mem_cons.mpr ⟨lw_p51, List.forall_mem_cons.mpr ⟨lw_p52, List.forall_mem_cons.mpr ⟨lw_p53, List.forall_mem_cons.mpr ⟨lw_p54, List.forall_mem_cons.mpr ⟨lw_p55, List.forall_mem_cons.mpr ⟨lw_p56, List.forall_mem_cons.mpr ⟨lw_p57, List.forall_mem_cons.mpr ⟨lw_p58, List.forall_mem_cons.mpr ⟨lw_p59, List.forall_mem_cons.mpr ⟨lw_p60, List.forall_mem_cons.mpr ⟨lw_p61, List.forall_mem_cons.mpr ⟨lw_p62, List.forall_mem_cons.mpr ⟨lw_p63, fun _ h => absurd h List.not_mem_nil⟩⟩⟩⟩⟩⟩⟩⟩⟩⟩⟩⟩⟩⟩⟩⟩
theorem lw_p64 : lw_okq (⟨"MaypoleGreenModel", "findFar", "()V"⟩, 61) := ⟨⟨by decide +kernel, by decide +kernel⟩, lw_t5 (List.mem_of_getElem? (i := 62) rfl), lw_t7 (List.mem_of_getElem? (i := 0) rfl), lw_t7 (List.mem_of_getElem? (i := 1) rfl)⟩
theorem lw_p65 : lw_okq (⟨"MaypoleGreenModel", "rank", "([I)I"⟩, 61) := ⟨⟨by decide +kernel, by decide +kernel⟩, lw_t5 (List.mem_of_getElem? (i := 62) rfl), lw_t7 (List.mem_of_getElem? (i := 4) rfl), lw_t7 (List.mem_of_getElem? (i := 5) rfl)⟩
theorem lw_p66 : lw_okq (⟨"MaypoleGreenModel", "unrank", "(I[I)V"⟩, 61) := ⟨⟨by decide +kernel, by decide +kernel⟩, lw_t5 (List.mem_of_getElem? (i := 62) rfl), lw_t7 (List.mem_of_getElem? (i := 8) rfl), lw_t7 (List.mem_of_getElem? (i := 9) rfl)⟩
theorem lw_p67 : lw_okq (⟨"MaypoleGreenModel", "swap", "([II)V"⟩, 61) := ⟨⟨by decide +kernel, by decide +kernel⟩, lw_t5 (List.mem_of_getElem? (i := 62) rfl), lw_t7 (List.mem_of_getElem? (i := 12) rfl), lw_t7 (List.mem_of_getElem? (i := 13) rfl)⟩
theorem lw_p68 : lw_okq (⟨"MaypoleGreenModel", "findSet", "(I)I"⟩, 61) := ⟨⟨by decide +kernel, by decide +kernel⟩, lw_t5 (List.mem_of_getElem? (i := 62) rfl), lw_t7 (List.mem_of_getElem? (i := 20) rfl), lw_t7 (List.mem_of_getElem? (i := 21) rfl)⟩
theorem lw_p69 : lw_okq (⟨"MaypoleGreenModel", "greetsOf", "(II)I"⟩, 61) := ⟨⟨by decide +kernel, by decide +kernel⟩, lw_t5 (List.mem_of_getElem? (i := 62) rfl), lw_t7 (List.mem_of_getElem? (i := 33) rfl), lw_t7 (List.mem_of_getElem? (i := 34) rfl)⟩
theorem lw_p70 : lw_okq (⟨"MaypoleGreenModel", "body", "(I)V"⟩, 61) := ⟨⟨by decide +kernel, by decide +kernel⟩, lw_t5 (List.mem_of_getElem? (i := 62) rfl), lw_t7 (List.mem_of_getElem? (i := 37) rfl), lw_t7 (List.mem_of_getElem? (i := 38) rfl)⟩
theorem lw_p71 : lw_okq (⟨"MaypoleGreenModel", "plainGreets", "(II)I"⟩, 61) := ⟨⟨by decide +kernel, by decide +kernel⟩, lw_t5 (List.mem_of_getElem? (i := 62) rfl), lw_t7 (List.mem_of_getElem? (i := 41) rfl), lw_t7 (List.mem_of_getElem? (i := 42) rfl)⟩
theorem lw_p72 : lw_okq (⟨"MaypoleGreenModel", "leadsOf", "(II)I"⟩, 61) := ⟨⟨by decide +kernel, by decide +kernel⟩, lw_t5 (List.mem_of_getElem? (i := 62) rfl), lw_t7 (List.mem_of_getElem? (i := 45) rfl), lw_t7 (List.mem_of_getElem? (i := 46) rfl)⟩
theorem lw_p73 : lw_okq (⟨"MaypoleGreenModel", "leaderLeads", "(II)I"⟩, 61) := ⟨⟨by decide +kernel, by decide +kernel⟩, lw_t5 (List.mem_of_getElem? (i := 62) rfl), lw_t7 (List.mem_of_getElem? (i := 49) rfl), lw_t7 (List.mem_of_getElem? (i := 50) rfl)⟩
theorem lw_p74 : lw_okq (⟨"MaypoleGreenModel", "plainLeads", "(II)I"⟩, 61) := ⟨⟨by decide +kernel, by decide +kernel⟩, lw_t5 (List.mem_of_getElem? (i := 62) rfl), lw_t7 (List.mem_of_getElem? (i := 53) rfl), lw_t7 (List.mem_of_getElem? (i := 54) rfl)⟩
theorem lw_p75 : lw_okq (⟨"MaypoleGreenModel", "restsOf", "(II)I"⟩, 61) := ⟨⟨by decide +kernel, by decide +kernel⟩, lw_t5 (List.mem_of_getElem? (i := 62) rfl), lw_t7 (List.mem_of_getElem? (i := 57) rfl), lw_t7 (List.mem_of_getElem? (i := 58) rfl)⟩
theorem lw_p76 : lw_okq (⟨"MaypoleGreenModel", "plainRests", "(II)I"⟩, 61) := ⟨⟨by decide +kernel, by decide +kernel⟩, lw_t5 (List.mem_of_getElem? (i := 62) rfl), lw_t7 (List.mem_of_getElem? (i := 61) rfl), lw_t7 (List.mem_of_getElem? (i := 62) rfl)⟩
theorem lw_p77 : lw_okq (⟨"MaypoleGreenModel", "narrow", "(II)I"⟩, 61) := ⟨⟨by decide +kernel, by decide +kernel⟩, lw_t5 (List.mem_of_getElem? (i := 62) rfl), lw_t7 (List.mem_of_getElem? (i := 85) rfl), lw_t7 (List.mem_of_getElem? (i := 86) rfl)⟩
def lw_privs_5 : List (MethodName × Nat) := [(⟨"MaypoleGreenModel", "findFar", "()V"⟩, 61), (⟨"MaypoleGreenModel", "rank", "([I)I"⟩, 61), (⟨"MaypoleGreenModel", "unrank", "(I[I)V"⟩, 61), (⟨"MaypoleGreenModel", "swap", "([II)V"⟩, 61), (⟨"MaypoleGreenModel", "findSet", "(I)I"⟩, 61), (⟨"MaypoleGreenModel", "greetsOf", "(II)I"⟩, 61), (⟨"MaypoleGreenModel", "body", "(I)V"⟩, 61), (⟨"MaypoleGreenModel", "plainGreets", "(II)I"⟩, 61), (⟨"MaypoleGreenModel", "leadsOf", "(II)I"⟩, 61), (⟨"MaypoleGreenModel", "leaderLeads", "(II)I"⟩, 61), (⟨"MaypoleGreenModel", "plainLeads", "(II)I"⟩, 61), (⟨"MaypoleGreenModel", "restsOf", "(II)I"⟩, 61), (⟨"MaypoleGreenModel", "plainRests", "(II)I"⟩, 61), (⟨"MaypoleGreenModel", "narrow", "(II)I"⟩, 61)]
theorem lw_r5 : ∀ q ∈ lw_privs_5, lw_okq q := List.forall_mem_cons.mpr ⟨lw_p64, List.forall_mem_cons.mpr ⟨lw_p65, List.forall_mem_cons.mpr ⟨lw_p66, List.forall_mem_cons.mpr ⟨lw_p67, List.forall_mem_cons.mpr ⟨lw_p68, List.forall_mem_cons.mpr ⟨lw_p69, List.forall_mem_cons.mpr ⟨lw_p70, List.forall_mem_cons.mpr ⟨lw_p71, List.forall_mem_cons.mpr ⟨lw_p72, List.forall_mem_cons.mpr ⟨lw_p73, List.forall_mem_cons.mpr ⟨lw_p74, List.forall_mem_cons.mpr ⟨lw_p75, List.forall_mem_cons.mpr ⟨lw_p76, List.forall_mem_cons.mpr ⟨lw_p77, fun _ h => absurd h List.not_mem_nil⟩⟩⟩⟩⟩⟩⟩⟩⟩⟩⟩⟩⟩⟩
def lw_privs : List (MethodName × Nat) := lw_privs_1 ++ (lw_privs_2 ++ (lw_privs_3 ++ (lw_privs_4 ++ (lw_privs_5))))
def lw_tbl : List Cond := k2_sels lw_privs ++ tables_1
theorem lw_privs_ok : ∀ q ∈ lw_privs, lw_okq q := by
  show ∀ q ∈ lw_privs_1 ++ (lw_privs_2 ++ (lw_privs_3 ++ (lw_privs_4 ++ (lw_privs_5)))), lw_okq q
  exact List.forall_mem_append.mpr ⟨lw_r1, List.forall_mem_append.mpr ⟨lw_r2, List.forall_mem_append.mpr ⟨lw_r3, List.forall_mem_append.mpr ⟨lw_r4, lw_r5⟩⟩⟩⟩
-- ===== ONE list of words for every method: the tables' words that hold all through a run =====
def lw_all : List Cond := lw_tbl.filter goodWord
/-- a word of the tables by its place: claim/WORDS.tsv -/
theorem lw_w {w : Cond} (i : Nat) (h : lw_tbl[i]? = some w) (g : goodWord w = true) : w ∈ lw_all := List.mem_filter.mpr ⟨List.mem_of_getElem? h, g⟩
theorem lw_all_tbl {w : Cond} (h : w ∈ lw_all) : w ∈ lw_tbl := (List.mem_filter.mp h).1
theorem lw_self : GoodIn lw_all lw_all := fun w h => ⟨h, good_of_word (List.mem_filter.mp h).2⟩
/-- a class's field words, by their places -/
theorem lw_in (ws : List Cond) (ps : List Nat) (hp : ws = ps.filterMap (fun i => lw_tbl[i]?)) (hg : ws.all goodWord = true) : ∀ w ∈ ws, w ∈ lw_all := by
  intro w h
  have h1 := List.all_eq_true.mp hg w h
  rw [hp] at h
  obtain ⟨i, -, hi⟩ := List.mem_filterMap.mp h
  exact lw_w i hi h1
/-- the words of a contract for the method y with code b, L locals, answer r -/
abbrev ws_ (y : MethodName) (b : ByteArray) (L : Nat) (r : Option FieldType) : List Cond := Cond.code y b L r :: lw_all
theorem lw_meth {y : MethodName} {b : ByteArray} {L : Nat} {r : Option FieldType} (h : Cond.code y b L r ∈ lw_all) : GoodIn lw_all (ws_ y b L r) := by
  intro w hw
  rcases List.mem_cons.mp hw with e | e
  · rw [e]
    exact lw_self _ h
  · exact lw_self _ e
theorem lw_app {a c : List Cond} (ha : ∀ w ∈ a, w ∈ lw_all) (hc : GoodIn lw_all c) : GoodIn lw_all (a ++ c) := by
  intro w hw
  rcases List.mem_append.mp hw with e | e
  · exact lw_self w (ha w e)
  · exact hc w e
/-- what a call through an object asks: cwV n hts (lw_V ..) -/
theorem lw_V {own : String} {idx : Nat} {C : String} {y : MethodName} {b : ByteArray} {L : Nat} {r : Option FieldType} (h1 : Cond.methodLink own idx y ∈ lw_all) (h2 : Cond.instanceMethod y ∈ lw_all) (h3 : Cond.selects C y y ∈ lw_all) (h4 : Cond.initialized C ∈ lw_all) (h5 : Cond.code y b L r ∈ lw_all) : GoodIn lw_all (wsV own idx C y (ws_ y b L r)) := by
  refine lw_app ?_ (lw_meth h5)
  intro w hw
  simp only [List.mem_cons, List.not_mem_nil, or_false] at hw
  rcases hw with e | e | e | e
  · rw [e]; exact h1
  · rw [e]; exact h2
  · rw [e]; exact h3
  · rw [e]; exact h4
/-- what a static call asks: va_cwS n hts (lw_S ..) -/
theorem lw_S {own : String} {idx : Nat} {y : MethodName} {b : ByteArray} {L : Nat} {r : Option FieldType} (h1 : Cond.methodLink own idx y ∈ lw_all) (h2 : Cond.static y ∈ lw_all) (h3 : Cond.initialized y.cls ∈ lw_all) (h4 : Cond.code y b L r ∈ lw_all) : GoodIn lw_all (va_wsS own idx y (ws_ y b L r)) := by
  refine lw_app ?_ (lw_meth h4)
  intro w hw
  simp only [List.mem_cons, List.not_mem_nil, or_false] at hw
  rcases hw with e | e | e
  · rw [e]; exact h1
  · rw [e]; exact h2
  · rw [e]; exact h3
/-- the words of a contract for a method WITH HANDLERS (hh: its table) -/
abbrev wsW_ (y : MethodName) (b : ByteArray) (L : Nat) (r : Option FieldType) (hh : List (Nat × Nat × Nat × Nat)) : List Cond := Cond.codeWith y b L r hh :: lw_all
theorem lw_methW {y : MethodName} {b : ByteArray} {L : Nat} {r : Option FieldType} {hh : List (Nat × Nat × Nat × Nat)} (h : Cond.codeWith y b L r hh ∈ lw_all) : GoodIn lw_all (wsW_ y b L r hh) := by
  intro w hw
  rcases List.mem_cons.mp hw with e | e
  · rw [e]
    exact lw_self _ h
  · exact lw_self _ e
/-- any list of words by their places (lw_in), good -/
theorem lw_good {ws : List Cond} (h : ∀ w ∈ ws, w ∈ lw_all) : GoodIn lw_all ws := fun w hw => lw_self w (h w hw)
/-- what a call of a method with handlers asks: vx_cwVW n hts (lw_VW ..), vx_cwSW n hts (lw_SW ..) -/
theorem lw_VW {own : String} {idx : Nat} {C : String} {y : MethodName} {b : ByteArray} {L : Nat} {r : Option FieldType} {hh : List (Nat × Nat × Nat × Nat)} (h1 : Cond.methodLink own idx y ∈ lw_all) (h2 : Cond.instanceMethod y ∈ lw_all) (h3 : Cond.selects C y y ∈ lw_all) (h4 : Cond.initialized C ∈ lw_all) (h5 : Cond.codeWith y b L r hh ∈ lw_all) : GoodIn lw_all (wsV own idx C y (wsW_ y b L r hh)) := by
  refine lw_app ?_ (lw_methW h5)
  intro w hw
  simp only [List.mem_cons, List.not_mem_nil, or_false] at hw
  rcases hw with e | e | e | e
  · rw [e]; exact h1
  · rw [e]; exact h2
  · rw [e]; exact h3
  · rw [e]; exact h4
theorem lw_SW {own : String} {idx : Nat} {y : MethodName} {b : ByteArray} {L : Nat} {r : Option FieldType} {hh : List (Nat × Nat × Nat × Nat)} (h1 : Cond.methodLink own idx y ∈ lw_all) (h2 : Cond.static y ∈ lw_all) (h3 : Cond.initialized y.cls ∈ lw_all) (h4 : Cond.codeWith y b L r hh ∈ lw_all) : GoodIn lw_all (va_wsS own idx y (wsW_ y b L r hh)) := by
  refine lw_app ?_ (lw_methW h4)
  intro w hw
  simp only [List.mem_cons, List.not_mem_nil, or_false] at hw
  rcases hw with e | e | e
  · rw [e]; exact h1
  · rw [e]; exact h2
  · rw [e]; exact h3
/-- a word by its place in its run of the tables -/
theorem lw_at {r : List Cond} (hr : ∀ w ∈ r, w ∈ lw_tbl) {w : Cond} (i : Nat) (h : r[i]? = some w) : w ∈ lw_tbl := hr w (List.mem_of_getElem? h)
theorem lw_g {w : Cond} (h : w ∈ lw_tbl) (g : goodWord w = true) : w ∈ lw_all := List.mem_filter.mpr ⟨h, g⟩
theorem lw_ms : ∀ w ∈ k2_sels lw_privs, w ∈ lw_tbl := fun w h => show w ∈ k2_sels lw_privs ++ tables_1 from List.mem_append_left _ h
theorem lw_m1 : ∀ w ∈ tables_1_1, w ∈ lw_tbl := fun w h => show w ∈ k2_sels lw_privs ++ tables_1 from List.mem_append_right (k2_sels lw_privs) (show w ∈ tables_1 from List.mem_append_left _ h)
theorem lw_m2 : ∀ w ∈ tables_1_2, w ∈ lw_tbl := fun w h => show w ∈ k2_sels lw_privs ++ tables_1 from List.mem_append_right (k2_sels lw_privs) (show w ∈ tables_1 from List.mem_append_right _ (List.mem_append_left _ h))
theorem lw_m3 : ∀ w ∈ tables_1_3, w ∈ lw_tbl := fun w h => show w ∈ k2_sels lw_privs ++ tables_1 from List.mem_append_right (k2_sels lw_privs) (show w ∈ tables_1 from List.mem_append_right _ (List.mem_append_right _ (List.mem_append_left _ h)))
theorem lw_m4 : ∀ w ∈ tables_1_4, w ∈ lw_tbl := fun w h => show w ∈ k2_sels lw_privs ++ tables_1 from List.mem_append_right (k2_sels lw_privs) (show w ∈ tables_1 from List.mem_append_right _ (List.mem_append_right _ (List.mem_append_right _ (List.mem_append_left _ h))))
theorem lw_m5 : ∀ w ∈ tables_1_5, w ∈ lw_tbl := fun w h => show w ∈ k2_sels lw_privs ++ tables_1 from List.mem_append_right (k2_sels lw_privs) (show w ∈ tables_1 from List.mem_append_right _ (List.mem_append_right _ (List.mem_append_right _ (List.mem_append_right _ (List.mem_append_left _ h)))))
theorem lw_m6 : ∀ w ∈ tables_1_6, w ∈ lw_tbl := fun w h => show w ∈ k2_sels lw_privs ++ tables_1 from List.mem_append_right (k2_sels lw_privs) (show w ∈ tables_1 from List.mem_append_right _ (List.mem_append_right _ (List.mem_append_right _ (List.mem_append_right _ (List.mem_append_right _ (List.mem_append_left _ h))))))
theorem lw_m7 : ∀ w ∈ tables_1_7, w ∈ lw_tbl := fun w h => show w ∈ k2_sels lw_privs ++ tables_1 from List.mem_append_right (k2_sels lw_privs) (show w ∈ tables_1 from List.mem_append_right _ (List.mem_append_right _ (List.mem_append_right _ (List.mem_append_right _ (List.mem_append_right _ (List.mem_append_right _ h))))))
theorem qs0 : (Cond.selects "MaypoleGreen" ⟨"MaypoleGreen", "made", "(III)LMaypoleGreen$Dancer;"⟩ ⟨"MaypoleGreen", "made", "(III)LMaypoleGreen$Dancer;"⟩) ∈ lw_all := lw_g (lw_at lw_ms 0 rfl) rfl
theorem qs1 : (Cond.selects "MaypoleGreen" ⟨"MaypoleGreen", "isPlace", "(I)Z"⟩ ⟨"MaypoleGreen", "isPlace", "(I)Z"⟩) ∈ lw_all := lw_g (lw_at lw_ms 1 rfl) rfl
theorem qs2 : (Cond.selects "MaypoleGreen" ⟨"MaypoleGreen", "isPerson", "(I)Z"⟩ ⟨"MaypoleGreen", "isPerson", "(I)Z"⟩) ∈ lw_all := lw_g (lw_at lw_ms 2 rfl) rfl
theorem qs3 : (Cond.selects "MaypoleGreen" ⟨"MaypoleGreen", "steps", "(I)I"⟩ ⟨"MaypoleGreen", "steps", "(I)I"⟩) ∈ lw_all := lw_g (lw_at lw_ms 3 rfl) rfl
theorem qs4 : (Cond.selects "MaypoleGreen$Round" ⟨"MaypoleGreen$Round", "passes", "(II)V"⟩ ⟨"MaypoleGreen$Round", "passes", "(II)V"⟩) ∈ lw_all := lw_g (lw_at lw_ms 4 rfl) rfl
theorem qs5 : (Cond.selects "MaypoleGreen$Round" ⟨"MaypoleGreen$Round", "walks", "(I)V"⟩ ⟨"MaypoleGreen$Round", "walks", "(I)V"⟩) ∈ lw_all := lw_g (lw_at lw_ms 5 rfl) rfl
theorem qs6 : (Cond.selects "MaypoleGreen" ⟨"MaypoleGreen", "moves", "([III)V"⟩ ⟨"MaypoleGreen", "moves", "([III)V"⟩) ∈ lw_all := lw_g (lw_at lw_ms 6 rfl) rfl
theorem qs7 : (Cond.selects "MaypoleGreen" ⟨"MaypoleGreen", "areLike", "(II)Z"⟩ ⟨"MaypoleGreen", "areLike", "(II)Z"⟩) ∈ lw_all := lw_g (lw_at lw_ms 7 rfl) rfl
theorem qs8 : (Cond.selects "MaypoleGreen" ⟨"MaypoleGreen", "wrongs", "([I)I"⟩ ⟨"MaypoleGreen", "wrongs", "([I)I"⟩) ∈ lw_all := lw_g (lw_at lw_ms 8 rfl) rfl
theorem qs9 : (Cond.selects "MaypoleGreen" ⟨"MaypoleGreen", "formOf", "(I)LMaypoleGreen$Form;"⟩ ⟨"MaypoleGreen", "formOf", "(I)LMaypoleGreen$Form;"⟩) ∈ lw_all := lw_g (lw_at lw_ms 9 rfl) rfl
theorem qs10 : (Cond.selects "MaypoleGreen$Form" ⟨"MaypoleGreen$Form", "comes", "(I)V"⟩ ⟨"MaypoleGreen$Form", "comes", "(I)V"⟩) ∈ lw_all := lw_g (lw_at lw_ms 10 rfl) rfl
theorem qs11 : (Cond.selects "MaypoleGreen$Form" ⟨"MaypoleGreen$Form", "areFar", "(II)Z"⟩ ⟨"MaypoleGreen$Form", "areFar", "(II)Z"⟩) ∈ lw_all := lw_g (lw_at lw_ms 11 rfl) rfl
theorem qs12 : (Cond.selects "MaypoleGreen$Form" ⟨"MaypoleGreen$Form", "orders", "()V"⟩ ⟨"MaypoleGreen$Form", "orders", "()V"⟩) ∈ lw_all := lw_g (lw_at lw_ms 12 rfl) rfl
theorem qs13 : (Cond.selects "MaypoleGreen$Form" ⟨"MaypoleGreen$Form", "goesAhead", "(II)Z"⟩ ⟨"MaypoleGreen$Form", "goesAhead", "(II)Z"⟩) ∈ lw_all := lw_g (lw_at lw_ms 13 rfl) rfl
theorem qs14 : (Cond.selects "MaypoleGreen$Reader" ⟨"MaypoleGreen$Reader", "items", "()LMaypoleGreen$Figure;"⟩ ⟨"MaypoleGreen$Reader", "items", "()LMaypoleGreen$Figure;"⟩) ∈ lw_all := lw_g (lw_at lw_ms 14 rfl) rfl
theorem qs15 : (Cond.selects "MaypoleGreen$Reader" ⟨"MaypoleGreen$Reader", "isItem", "()Z"⟩ ⟨"MaypoleGreen$Reader", "isItem", "()Z"⟩) ∈ lw_all := lw_g (lw_at lw_ms 15 rfl) rfl
theorem qs16 : (Cond.selects "MaypoleGreen$Reader" ⟨"MaypoleGreen$Reader", "here", "()I"⟩ ⟨"MaypoleGreen$Reader", "here", "()I"⟩) ∈ lw_all := lw_g (lw_at lw_ms 16 rfl) rfl
theorem qs17 : (Cond.selects "MaypoleGreen$Reader" ⟨"MaypoleGreen$Reader", "off", "()LMaypoleGreen$Off;"⟩ ⟨"MaypoleGreen$Reader", "off", "()LMaypoleGreen$Off;"⟩) ∈ lw_all := lw_g (lw_at lw_ms 17 rfl) rfl
theorem qs18 : (Cond.selects "java/lang/NullPointerException" ⟨"java/lang/NullPointerException", "getExtendedNPEMessage", "()Ljava/lang/String;"⟩ ⟨"java/lang/NullPointerException", "getExtendedNPEMessage", "()Ljava/lang/String;"⟩) ∈ lw_all := lw_g (lw_at lw_ms 18 rfl) rfl
theorem qs19 : (Cond.selects "java/lang/Throwable" ⟨"java/lang/Throwable", "fillInStackTrace", "(I)Ljava/lang/Throwable;"⟩ ⟨"java/lang/Throwable", "fillInStackTrace", "(I)Ljava/lang/Throwable;"⟩) ∈ lw_all := lw_g (lw_at lw_ms 19 rfl) rfl
theorem qs20 : (Cond.selects "MaypoleGreen$Reader" ⟨"MaypoleGreen$Reader", "item", "(LMaypoleGreen$Figure;)V"⟩ ⟨"MaypoleGreen$Reader", "item", "(LMaypoleGreen$Figure;)V"⟩) ∈ lw_all := lw_g (lw_at lw_ms 20 rfl) rfl
theorem qs21 : (Cond.selects "MaypoleGreen$Reader" ⟨"MaypoleGreen$Reader", "passes", "(LMaypoleGreen$Figure;)V"⟩ ⟨"MaypoleGreen$Reader", "passes", "(LMaypoleGreen$Figure;)V"⟩) ∈ lw_all := lw_g (lw_at lw_ms 21 rfl) rfl
theorem qs22 : (Cond.selects "MaypoleGreen$Reader" ⟨"MaypoleGreen$Reader", "group", "(LMaypoleGreen$Figure;)V"⟩ ⟨"MaypoleGreen$Reader", "group", "(LMaypoleGreen$Figure;)V"⟩) ∈ lw_all := lw_g (lw_at lw_ms 22 rfl) rfl
theorem qs23 : (Cond.selects "MaypoleGreen" ⟨"MaypoleGreen", "isFigure", "(I)Z"⟩ ⟨"MaypoleGreen", "isFigure", "(I)Z"⟩) ∈ lw_all := lw_g (lw_at lw_ms 23 rfl) rfl
theorem qs24 : (Cond.selects "MaypoleGreen" ⟨"MaypoleGreen", "gives", "(LMaypoleGreen$Figure;II)Z"⟩ ⟨"MaypoleGreen", "gives", "(LMaypoleGreen$Figure;II)Z"⟩) ∈ lw_all := lw_g (lw_at lw_ms 24 rfl) rfl
theorem qs25 : (Cond.selects "MaypoleGreen" ⟨"MaypoleGreen", "isOfBut", "(LMaypoleGreen$Figure;I)Z"⟩ ⟨"MaypoleGreen", "isOfBut", "(LMaypoleGreen$Figure;I)Z"⟩) ∈ lw_all := lw_g (lw_at lw_ms 25 rfl) rfl
theorem qs26 : (Cond.selects "MaypoleGreen" ⟨"MaypoleGreen", "fewestTo", "([BI)I"⟩ ⟨"MaypoleGreen", "fewestTo", "([BI)I"⟩) ∈ lw_all := lw_g (lw_at lw_ms 26 rfl) rfl
theorem qs27 : (Cond.selects "MaypoleGreen$Orders" ⟨"MaypoleGreen$Orders", "puts", "(I)V"⟩ ⟨"MaypoleGreen$Orders", "puts", "(I)V"⟩) ∈ lw_all := lw_g (lw_at lw_ms 27 rfl) rfl
theorem qs28 : (Cond.selects "MaypoleGreen$Orders" ⟨"MaypoleGreen$Orders", "swaps", "(I)V"⟩ ⟨"MaypoleGreen$Orders", "swaps", "(I)V"⟩) ∈ lw_all := lw_g (lw_at lw_ms 28 rfl) rfl
theorem qs29 : (Cond.selects "MaypoleGreen" ⟨"MaypoleGreen", "refuses", "(I)I"⟩ ⟨"MaypoleGreen", "refuses", "(I)I"⟩) ∈ lw_all := lw_g (lw_at lw_ms 29 rfl) rfl
theorem qs30 : (Cond.selects "MaypoleGreen" ⟨"MaypoleGreen", "sets", "(I)V"⟩ ⟨"MaypoleGreen", "sets", "(I)V"⟩) ∈ lw_all := lw_g (lw_at lw_ms 30 rfl) rfl
theorem qs31 : (Cond.selects "MaypoleGreen" ⟨"MaypoleGreen", "puts", "(III)V"⟩ ⟨"MaypoleGreen", "puts", "(III)V"⟩) ∈ lw_all := lw_g (lw_at lw_ms 31 rfl) rfl
theorem qs32 : (Cond.selects "MaypoleGreen" ⟨"MaypoleGreen", "apart", "(II)I"⟩ ⟨"MaypoleGreen", "apart", "(II)I"⟩) ∈ lw_all := lw_g (lw_at lw_ms 32 rfl) rfl
theorem qs33 : (Cond.selects "MaypoleGreen$Tape" ⟨"MaypoleGreen$Tape", "has", "(I)V"⟩ ⟨"MaypoleGreen$Tape", "has", "(I)V"⟩) ∈ lw_all := lw_g (lw_at lw_ms 33 rfl) rfl
theorem qs34 : (Cond.selects "MaypoleGreen$Tape" ⟨"MaypoleGreen$Tape", "size", "()I"⟩ ⟨"MaypoleGreen$Tape", "size", "()I"⟩) ∈ lw_all := lw_g (lw_at lw_ms 34 rfl) rfl
theorem qs35 : (Cond.selects "MaypoleGreenModel" ⟨"MaypoleGreenModel", "in", "(III)Z"⟩ ⟨"MaypoleGreenModel", "in", "(III)Z"⟩) ∈ lw_all := lw_g (lw_at lw_ms 35 rfl) rfl
theorem qs36 : (Cond.selects "MaypoleGreenModel" ⟨"MaypoleGreenModel", "isPlace", "(I)Z"⟩ ⟨"MaypoleGreenModel", "isPlace", "(I)Z"⟩) ∈ lw_all := lw_g (lw_at lw_ms 36 rfl) rfl
theorem qs37 : (Cond.selects "MaypoleGreenModel" ⟨"MaypoleGreenModel", "isPerson", "(I)Z"⟩ ⟨"MaypoleGreenModel", "isPerson", "(I)Z"⟩) ∈ lw_all := lw_g (lw_at lw_ms 37 rfl) rfl
theorem qs38 : (Cond.selects "MaypoleGreenModel" ⟨"MaypoleGreenModel", "after", "(I)I"⟩ ⟨"MaypoleGreenModel", "after", "(I)I"⟩) ∈ lw_all := lw_g (lw_at lw_ms 38 rfl) rfl
theorem qs39 : (Cond.selects "MaypoleGreenModel" ⟨"MaypoleGreenModel", "turn", "([II)V"⟩ ⟨"MaypoleGreenModel", "turn", "([II)V"⟩) ∈ lw_all := lw_g (lw_at lw_ms 39 rfl) rfl
theorem qs40 : (Cond.selects "MaypoleGreenModel" ⟨"MaypoleGreenModel", "topRibbon", "(II)I"⟩ ⟨"MaypoleGreenModel", "topRibbon", "(II)I"⟩) ∈ lw_all := lw_g (lw_at lw_ms 40 rfl) rfl
theorem qs41 : (Cond.selects "MaypoleGreenModel" ⟨"MaypoleGreenModel", "ahead", "(I)I"⟩ ⟨"MaypoleGreenModel", "ahead", "(I)I"⟩) ∈ lw_all := lw_g (lw_at lw_ms 41 rfl) rfl
theorem qs42 : (Cond.selects "MaypoleGreenModel" ⟨"MaypoleGreenModel", "areLike", "(II)Z"⟩ ⟨"MaypoleGreenModel", "areLike", "(II)Z"⟩) ∈ lw_all := lw_g (lw_at lw_ms 42 rfl) rfl
theorem qs43 : (Cond.selects "MaypoleGreenModel" ⟨"MaypoleGreenModel", "wrongWith", "([I)I"⟩ ⟨"MaypoleGreenModel", "wrongWith", "([I)I"⟩) ∈ lw_all := lw_g (lw_at lw_ms 43 rfl) rfl
theorem qs44 : (Cond.selects "MaypoleGreenModel" ⟨"MaypoleGreenModel", "reads", "()Z"⟩ ⟨"MaypoleGreenModel", "reads", "()Z"⟩) ∈ lw_all := lw_g (lw_at lw_ms 44 rfl) rfl
theorem qs45 : (Cond.selects "MaypoleGreenModel" ⟨"MaypoleGreenModel", "next", "()I"⟩ ⟨"MaypoleGreenModel", "next", "()I"⟩) ∈ lw_all := lw_g (lw_at lw_ms 45 rfl) rfl
theorem qs46 : (Cond.selects "MaypoleGreenModel" ⟨"MaypoleGreenModel", "add", "(I)V"⟩ ⟨"MaypoleGreenModel", "add", "(I)V"⟩) ∈ lw_all := lw_g (lw_at lw_ms 46 rfl) rfl
theorem qs47 : (Cond.selects "MaypoleGreenModel" ⟨"MaypoleGreenModel", "isFigure", "(I)Z"⟩ ⟨"MaypoleGreenModel", "isFigure", "(I)Z"⟩) ∈ lw_all := lw_g (lw_at lw_ms 47 rfl) rfl
theorem qs48 : (Cond.selects "MaypoleGreenModel" ⟨"MaypoleGreenModel", "repeat", "(II)V"⟩ ⟨"MaypoleGreenModel", "repeat", "(II)V"⟩) ∈ lw_all := lw_g (lw_at lw_ms 48 rfl) rfl
theorem qs49 : (Cond.selects "MaypoleGreenModel" ⟨"MaypoleGreenModel", "undo", "(I)V"⟩ ⟨"MaypoleGreenModel", "undo", "(I)V"⟩) ∈ lw_all := lw_g (lw_at lw_ms 49 rfl) rfl
theorem qs50 : (Cond.selects "MaypoleGreenModel" ⟨"MaypoleGreenModel", "undoing", "(I)I"⟩ ⟨"MaypoleGreenModel", "undoing", "(I)I"⟩) ∈ lw_all := lw_g (lw_at lw_ms 50 rfl) rfl
theorem qs51 : (Cond.selects "MaypoleGreenModel" ⟨"MaypoleGreenModel", "findForm", "(I)Z"⟩ ⟨"MaypoleGreenModel", "findForm", "(I)Z"⟩) ∈ lw_all := lw_g (lw_at lw_ms 51 rfl) rfl
theorem qs52 : (Cond.selects "MaypoleGreenModel" ⟨"MaypoleGreenModel", "stepsOf", "(I)I"⟩ ⟨"MaypoleGreenModel", "stepsOf", "(I)I"⟩) ∈ lw_all := lw_g (lw_at lw_ms 52 rfl) rfl
theorem qs53 : (Cond.selects "MaypoleGreenModel" ⟨"MaypoleGreenModel", "stepOf", "(II)I"⟩ ⟨"MaypoleGreenModel", "stepOf", "(II)I"⟩) ∈ lw_all := lw_g (lw_at lw_ms 53 rfl) rfl
theorem qs54 : (Cond.selects "MaypoleGreenModel" ⟨"MaypoleGreenModel", "take", "(I)V"⟩ ⟨"MaypoleGreenModel", "take", "(I)V"⟩) ∈ lw_all := lw_g (lw_at lw_ms 54 rfl) rfl
theorem qs55 : (Cond.selects "MaypoleGreenModel" ⟨"MaypoleGreenModel", "areFar", "(II)Z"⟩ ⟨"MaypoleGreenModel", "areFar", "(II)Z"⟩) ∈ lw_all := lw_g (lw_at lw_ms 55 rfl) rfl
theorem qs56 : (Cond.selects "MaypoleGreenModel" ⟨"MaypoleGreenModel", "abs", "(I)I"⟩ ⟨"MaypoleGreenModel", "abs", "(I)I"⟩) ∈ lw_all := lw_g (lw_at lw_ms 56 rfl) rfl
theorem qs57 : (Cond.selects "MaypoleGreenModel" ⟨"MaypoleGreenModel", "bringLeast", "(I)V"⟩ ⟨"MaypoleGreenModel", "bringLeast", "(I)V"⟩) ∈ lw_all := lw_g (lw_at lw_ms 57 rfl) rfl
theorem qs58 : (Cond.selects "MaypoleGreenModel" ⟨"MaypoleGreenModel", "makes", "(III)Z"⟩ ⟨"MaypoleGreenModel", "makes", "(III)Z"⟩) ∈ lw_all := lw_g (lw_at lw_ms 58 rfl) rfl
theorem qs59 : (Cond.selects "MaypoleGreenModel" ⟨"MaypoleGreenModel", "tryBegin", "()V"⟩ ⟨"MaypoleGreenModel", "tryBegin", "()V"⟩) ∈ lw_all := lw_g (lw_at lw_ms 59 rfl) rfl
theorem qs60 : (Cond.selects "MaypoleGreenModel" ⟨"MaypoleGreenModel", "tryStep", "(I)Z"⟩ ⟨"MaypoleGreenModel", "tryStep", "(I)Z"⟩) ∈ lw_all := lw_g (lw_at lw_ms 60 rfl) rfl
theorem qs61 : (Cond.selects "MaypoleGreenModel" ⟨"MaypoleGreenModel", "tryWalk", "(I)Z"⟩ ⟨"MaypoleGreenModel", "tryWalk", "(I)Z"⟩) ∈ lw_all := lw_g (lw_at lw_ms 61 rfl) rfl
theorem qs62 : (Cond.selects "MaypoleGreenModel" ⟨"MaypoleGreenModel", "tryPass", "(II)Z"⟩ ⟨"MaypoleGreenModel", "tryPass", "(II)Z"⟩) ∈ lw_all := lw_g (lw_at lw_ms 62 rfl) rfl
theorem qs63 : (Cond.selects "MaypoleGreenModel" ⟨"MaypoleGreenModel", "isTape", "(I)Z"⟩ ⟨"MaypoleGreenModel", "isTape", "(I)Z"⟩) ∈ lw_all := lw_g (lw_at lw_ms 63 rfl) rfl
theorem qs64 : (Cond.selects "MaypoleGreenModel" ⟨"MaypoleGreenModel", "findFar", "()V"⟩ ⟨"MaypoleGreenModel", "findFar", "()V"⟩) ∈ lw_all := lw_g (lw_at lw_ms 64 rfl) rfl
theorem qs65 : (Cond.selects "MaypoleGreenModel" ⟨"MaypoleGreenModel", "rank", "([I)I"⟩ ⟨"MaypoleGreenModel", "rank", "([I)I"⟩) ∈ lw_all := lw_g (lw_at lw_ms 65 rfl) rfl
theorem qs66 : (Cond.selects "MaypoleGreenModel" ⟨"MaypoleGreenModel", "unrank", "(I[I)V"⟩ ⟨"MaypoleGreenModel", "unrank", "(I[I)V"⟩) ∈ lw_all := lw_g (lw_at lw_ms 66 rfl) rfl
theorem qs67 : (Cond.selects "MaypoleGreenModel" ⟨"MaypoleGreenModel", "swap", "([II)V"⟩ ⟨"MaypoleGreenModel", "swap", "([II)V"⟩) ∈ lw_all := lw_g (lw_at lw_ms 67 rfl) rfl
theorem qs68 : (Cond.selects "MaypoleGreenModel" ⟨"MaypoleGreenModel", "findSet", "(I)I"⟩ ⟨"MaypoleGreenModel", "findSet", "(I)I"⟩) ∈ lw_all := lw_g (lw_at lw_ms 68 rfl) rfl
theorem qs69 : (Cond.selects "MaypoleGreenModel" ⟨"MaypoleGreenModel", "greetsOf", "(II)I"⟩ ⟨"MaypoleGreenModel", "greetsOf", "(II)I"⟩) ∈ lw_all := lw_g (lw_at lw_ms 69 rfl) rfl
theorem qs70 : (Cond.selects "MaypoleGreenModel" ⟨"MaypoleGreenModel", "body", "(I)V"⟩ ⟨"MaypoleGreenModel", "body", "(I)V"⟩) ∈ lw_all := lw_g (lw_at lw_ms 70 rfl) rfl
theorem qs71 : (Cond.selects "MaypoleGreenModel" ⟨"MaypoleGreenModel", "plainGreets", "(II)I"⟩ ⟨"MaypoleGreenModel", "plainGreets", "(II)I"⟩) ∈ lw_all := lw_g (lw_at lw_ms 71 rfl) rfl
theorem qs72 : (Cond.selects "MaypoleGreenModel" ⟨"MaypoleGreenModel", "leadsOf", "(II)I"⟩ ⟨"MaypoleGreenModel", "leadsOf", "(II)I"⟩) ∈ lw_all := lw_g (lw_at lw_ms 72 rfl) rfl
theorem qs73 : (Cond.selects "MaypoleGreenModel" ⟨"MaypoleGreenModel", "leaderLeads", "(II)I"⟩ ⟨"MaypoleGreenModel", "leaderLeads", "(II)I"⟩) ∈ lw_all := lw_g (lw_at lw_ms 73 rfl) rfl
theorem qs74 : (Cond.selects "MaypoleGreenModel" ⟨"MaypoleGreenModel", "plainLeads", "(II)I"⟩ ⟨"MaypoleGreenModel", "plainLeads", "(II)I"⟩) ∈ lw_all := lw_g (lw_at lw_ms 74 rfl) rfl
theorem qs75 : (Cond.selects "MaypoleGreenModel" ⟨"MaypoleGreenModel", "restsOf", "(II)I"⟩ ⟨"MaypoleGreenModel", "restsOf", "(II)I"⟩) ∈ lw_all := lw_g (lw_at lw_ms 75 rfl) rfl
theorem qs76 : (Cond.selects "MaypoleGreenModel" ⟨"MaypoleGreenModel", "plainRests", "(II)I"⟩ ⟨"MaypoleGreenModel", "plainRests", "(II)I"⟩) ∈ lw_all := lw_g (lw_at lw_ms 76 rfl) rfl
theorem qs77 : (Cond.selects "MaypoleGreenModel" ⟨"MaypoleGreenModel", "narrow", "(II)I"⟩ ⟨"MaypoleGreenModel", "narrow", "(II)I"⟩) ∈ lw_all := lw_g (lw_at lw_ms 77 rfl) rfl
