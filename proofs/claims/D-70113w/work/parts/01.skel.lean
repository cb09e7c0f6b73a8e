-- ===== PART A: goes FIRST, ahead of the names: the tables' words, and 'selects' of the private methods out of them =====
/-- a private method of a class that the tables say can be made, by its rows of tables_1 -/
def lw_okq (q : MethodName × Nat) : Prop := (q.1.cls ≠ "java/lang/invoke/MethodHandle" ∧ q.1.cls ≠ "java/lang/invoke/VarHandle") ∧ Cond.instantiable q.1.cls q.2 ∈ tables_1 ∧ Cond.privateMethod q.1 ∈ tables_1 ∧ Cond.instanceMethod q.1 ∈ tables_1
set_option maxRecDepth 100000
theorem lw_t1 {w : Cond} (h : w ∈ tables_1_1) : w ∈ tables_1 := List.mem_append_left _ h
theorem lw_t2 {w : Cond} (h : w ∈ tables_1_2) : w ∈ tables_1 := List.mem_append_right _ (List.mem_append_left _ h)
theorem lw_t3 {w : Cond} (h : w ∈ tables_1_3) : w ∈ tables_1 := List.mem_append_right _ (List.mem_append_right _ (List.mem_append_left _ h))
theorem lw_t4 {w : Cond} (h : w ∈ tables_1_4) : w ∈ tables_1 := List.mem_append_right _ (List.mem_append_right _ (List.mem_append_right _ (List.mem_append_left _ h)))
theorem lw_t5 {w : Cond} (h : w ∈ tables_1_5) : w ∈ tables_1 := List.mem_append_right _ (List.mem_append_right _ (List.mem_append_right _ (List.mem_append_right _ h)))
theorem lw_p0 : lw_okq (⟨"BellLots", "plains", "(I)[LBellLots$Plain;"⟩, 19) := ⟨⟨by decide +kernel, by decide +kernel⟩, lw_t1 (List.mem_of_getElem? (i := 25) rfl), lw_t1 (List.mem_of_getElem? (i := 140) rfl), lw_t1 (List.mem_of_getElem? (i := 141) rfl)⟩
theorem lw_p1 : lw_okq (⟨"BellLots$Reader", "step", "()V"⟩, 6) := ⟨⟨by decide +kernel, by decide +kernel⟩, lw_t2 (List.mem_of_getElem? (i := 74) rfl), lw_t2 (List.mem_of_getElem? (i := 105) rfl), lw_t2 (List.mem_of_getElem? (i := 106) rfl)⟩
theorem lw_p2 : lw_okq (⟨"BellLots$Reader", "here", "()I"⟩, 6) := ⟨⟨by decide +kernel, by decide +kernel⟩, lw_t2 (List.mem_of_getElem? (i := 74) rfl), lw_t2 (List.mem_of_getElem? (i := 109) rfl), lw_t2 (List.mem_of_getElem? (i := 110) rfl)⟩
theorem lw_p3 : lw_okq (⟨"BellLots$Reader", "may", "(I)Z"⟩, 6) := ⟨⟨by decide +kernel, by decide +kernel⟩, lw_t2 (List.mem_of_getElem? (i := 74) rfl), lw_t2 (List.mem_of_getElem? (i := 200) rfl), lw_t2 (List.mem_of_getElem? (i := 201) rfl)⟩
theorem lw_p4 : lw_okq (⟨"BellLots$Reader", "due", "(Z)I"⟩, 6) := ⟨⟨by decide +kernel, by decide +kernel⟩, lw_t2 (List.mem_of_getElem? (i := 74) rfl), lw_t2 (List.mem_of_getElem? (i := 204) rfl), lw_t2 (List.mem_of_getElem? (i := 205) rfl)⟩
theorem lw_p5 : lw_okq (⟨"java/lang/Throwable", "fillInStackTrace", "(I)Ljava/lang/Throwable;"⟩, 6) := ⟨⟨by decide +kernel, by decide +kernel⟩, lw_t3 (List.mem_of_getElem? (i := 4) rfl), lw_t3 (List.mem_of_getElem? (i := 2) rfl), lw_t3 (List.mem_of_getElem? (i := 3) rfl)⟩
theorem lw_p6 : lw_okq (⟨"BellLots$Reader", "item", "(I)V"⟩, 6) := ⟨⟨by decide +kernel, by decide +kernel⟩, lw_t2 (List.mem_of_getElem? (i := 74) rfl), lw_t3 (List.mem_of_getElem? (i := 36) rfl), lw_t3 (List.mem_of_getElem? (i := 37) rfl)⟩
theorem lw_p7 : lw_okq (⟨"BellLots$Reader", "number", "(II)I"⟩, 6) := ⟨⟨by decide +kernel, by decide +kernel⟩, lw_t2 (List.mem_of_getElem? (i := 74) rfl), lw_t3 (List.mem_of_getElem? (i := 40) rfl), lw_t3 (List.mem_of_getElem? (i := 41) rfl)⟩
theorem lw_p8 : lw_okq (⟨"BellLots$Reader", "town", "()I"⟩, 6) := ⟨⟨by decide +kernel, by decide +kernel⟩, lw_t2 (List.mem_of_getElem? (i := 74) rfl), lw_t3 (List.mem_of_getElem? (i := 44) rfl), lw_t3 (List.mem_of_getElem? (i := 45) rfl)⟩
theorem lw_p9 : lw_okq (⟨"BellLots", "isTown", "(I)Z"⟩, 19) := ⟨⟨by decide +kernel, by decide +kernel⟩, lw_t1 (List.mem_of_getElem? (i := 25) rfl), lw_t3 (List.mem_of_getElem? (i := 61) rfl), lw_t3 (List.mem_of_getElem? (i := 62) rfl)⟩
theorem lw_p10 : lw_okq (⟨"BellLots", "fits", "(I)I"⟩, 19) := ⟨⟨by decide +kernel, by decide +kernel⟩, lw_t1 (List.mem_of_getElem? (i := 25) rfl), lw_t3 (List.mem_of_getElem? (i := 77) rfl), lw_t3 (List.mem_of_getElem? (i := 78) rfl)⟩
theorem lw_p11 : lw_okq (⟨"BellLots", "know", "()V"⟩, 19) := ⟨⟨by decide +kernel, by decide +kernel⟩, lw_t1 (List.mem_of_getElem? (i := 25) rfl), lw_t3 (List.mem_of_getElem? (i := 105) rfl), lw_t3 (List.mem_of_getElem? (i := 106) rfl)⟩
theorem lw_p12 : lw_okq (⟨"BellLots$Plain", "over", "()V"⟩, 7) := ⟨⟨by decide +kernel, by decide +kernel⟩, lw_t1 (List.mem_of_getElem? (i := 103) rfl), lw_t3 (List.mem_of_getElem? (i := 121) rfl), lw_t3 (List.mem_of_getElem? (i := 122) rfl)⟩
theorem lw_p13 : lw_okq (⟨"BellLots", "lotOf", "(I)V"⟩, 19) := ⟨⟨by decide +kernel, by decide +kernel⟩, lw_t1 (List.mem_of_getElem? (i := 25) rfl), lw_t3 (List.mem_of_getElem? (i := 125) rfl), lw_t3 (List.mem_of_getElem? (i := 126) rfl)⟩
theorem lw_p14 : lw_okq (⟨"BellLots$Plain", "cutAll", "()I"⟩, 7) := ⟨⟨by decide +kernel, by decide +kernel⟩, lw_t1 (List.mem_of_getElem? (i := 103) rfl), lw_t3 (List.mem_of_getElem? (i := 132) rfl), lw_t3 (List.mem_of_getElem? (i := 133) rfl)⟩
theorem lw_p15 : lw_okq (⟨"BellLots", "hangFrom", "(III)V"⟩, 19) := ⟨⟨by decide +kernel, by decide +kernel⟩, lw_t1 (List.mem_of_getElem? (i := 25) rfl), lw_t3 (List.mem_of_getElem? (i := 169) rfl), lw_t3 (List.mem_of_getElem? (i := 170) rfl)⟩
def lw_privs_1 : List (MethodName × Nat) := [(⟨"BellLots", "plains", "(I)[LBellLots$Plain;"⟩, 19), (⟨"BellLots$Reader", "step", "()V"⟩, 6), (⟨"BellLots$Reader", "here", "()I"⟩, 6), (⟨"BellLots$Reader", "may", "(I)Z"⟩, 6), (⟨"BellLots$Reader", "due", "(Z)I"⟩, 6), (⟨"java/lang/Throwable", "fillInStackTrace", "(I)Ljava/lang/Throwable;"⟩, 6), (⟨"BellLots$Reader", "item", "(I)V"⟩, 6), (⟨"BellLots$Reader", "number", "(II)I"⟩, 6), (⟨"BellLots$Reader", "town", "()I"⟩, 6), (⟨"BellLots", "isTown", "(I)Z"⟩, 19), (⟨"BellLots", "fits", "(I)I"⟩, 19), (⟨"BellLots", "know", "()V"⟩, 19), (⟨"BellLots$Plain", "over", "()V"⟩, 7), (⟨"BellLots", "lotOf", "(I)V"⟩, 19), (⟨"BellLots$Plain", "cutAll", "()I"⟩, 7), (⟨"BellLots", "hangFrom", "(III)V"⟩, 19)]
theorem lw_r1 : ∀ q ∈ lw_privs_1, lw_okq q := List.forall_mem_cons.mpr ⟨lw_p0, List.forall_mem_cons.mpr ⟨lw_p1, List.forall_mem_cons.mpr ⟨lw_p2, List.forall_mem_cons.mpr ⟨lw_p3, List.forall_mem_cons.mpr ⟨lw_p4, List.forall_mem_cons.mpr ⟨lw_p5, List.forall_mem_cons.mpr ⟨lw_p6, List.forall_mem_cons.mpr ⟨lw_p7, List.forall_mem_cons.mpr ⟨lw_p8, List.forall_mem_cons.mpr ⟨lw_p9, List.forall_mem_cons.mpr ⟨lw_p10, List.forall_mem_cons.mpr ⟨lw_p11, List.forall_mem_cons.mpr ⟨lw_p12, List.forall_mem_cons.mpr ⟨lw_p13, List.forall_mem_cons.mpr ⟨lw_p14, List.forall_mem_cons.mpr ⟨lw_p15, fun _ h => absurd h List.not_mem_nil⟩⟩⟩⟩⟩⟩⟩⟩⟩⟩⟩⟩⟩⟩⟩⟩
theorem lw_p16 : lw_okq (⟨"BellLots", "areCrossed", "(II)Z"⟩, 19) := ⟨⟨by decide +kernel, by decide +kernel⟩, lw_t1 (List.mem_of_getElem? (i := 25) rfl), lw_t3 (List.mem_of_getElem? (i := 181) rfl), lw_t3 (List.mem_of_getElem? (i := 182) rfl)⟩
theorem lw_p17 : lw_okq (⟨"BellLots", "ways", "(II)I"⟩, 19) := ⟨⟨by decide +kernel, by decide +kernel⟩, lw_t1 (List.mem_of_getElem? (i := 25) rfl), lw_t3 (List.mem_of_getElem? (i := 209) rfl), lw_t3 (List.mem_of_getElem? (i := 210) rfl)⟩
theorem lw_p18 : lw_okq (⟨"BellLotsModel", "advances", "()V"⟩, 29) := ⟨⟨by decide +kernel, by decide +kernel⟩, lw_t4 (List.mem_of_getElem? (i := 32) rfl), lw_t4 (List.mem_of_getElem? (i := 141) rfl), lw_t4 (List.mem_of_getElem? (i := 142) rfl)⟩
theorem lw_p19 : lw_okq (⟨"BellLotsModel", "letterAt", "(I)I"⟩, 29) := ⟨⟨by decide +kernel, by decide +kernel⟩, lw_t4 (List.mem_of_getElem? (i := 32) rfl), lw_t4 (List.mem_of_getElem? (i := 145) rfl), lw_t4 (List.mem_of_getElem? (i := 146) rfl)⟩
theorem lw_p20 : lw_okq (⟨"BellLotsModel", "isWell", "()Z"⟩, 29) := ⟨⟨by decide +kernel, by decide +kernel⟩, lw_t4 (List.mem_of_getElem? (i := 32) rfl), lw_t4 (List.mem_of_getElem? (i := 149) rfl), lw_t4 (List.mem_of_getElem? (i := 150) rfl)⟩
theorem lw_p21 : lw_okq (⟨"BellLotsModel", "takes", "(Z)I"⟩, 29) := ⟨⟨by decide +kernel, by decide +kernel⟩, lw_t4 (List.mem_of_getElem? (i := 32) rfl), lw_t4 (List.mem_of_getElem? (i := 153) rfl), lw_t4 (List.mem_of_getElem? (i := 154) rfl)⟩
theorem lw_p22 : lw_okq (⟨"BellLotsModel", "readsItem", "(I)V"⟩, 29) := ⟨⟨by decide +kernel, by decide +kernel⟩, lw_t4 (List.mem_of_getElem? (i := 32) rfl), lw_t4 (List.mem_of_getElem? (i := 157) rfl), lw_t4 (List.mem_of_getElem? (i := 158) rfl)⟩
theorem lw_p23 : lw_okq (⟨"BellLotsModel", "number", "(II)I"⟩, 29) := ⟨⟨by decide +kernel, by decide +kernel⟩, lw_t4 (List.mem_of_getElem? (i := 32) rfl), lw_t4 (List.mem_of_getElem? (i := 161) rfl), lw_t4 (List.mem_of_getElem? (i := 162) rfl)⟩
theorem lw_p24 : lw_okq (⟨"BellLotsModel", "settles", "()V"⟩, 29) := ⟨⟨by decide +kernel, by decide +kernel⟩, lw_t4 (List.mem_of_getElem? (i := 32) rfl), lw_t4 (List.mem_of_getElem? (i := 165) rfl), lw_t4 (List.mem_of_getElem? (i := 166) rfl)⟩
theorem lw_p25 : lw_okq (⟨"BellLotsModel", "isTown", "(I)Z"⟩, 29) := ⟨⟨by decide +kernel, by decide +kernel⟩, lw_t4 (List.mem_of_getElem? (i := 32) rfl), lw_t4 (List.mem_of_getElem? (i := 174) rfl), lw_t4 (List.mem_of_getElem? (i := 175) rfl)⟩
theorem lw_p26 : lw_okq (⟨"BellLotsModel", "isDumb", "(I)Z"⟩, 29) := ⟨⟨by decide +kernel, by decide +kernel⟩, lw_t4 (List.mem_of_getElem? (i := 32) rfl), lw_t4 (List.mem_of_getElem? (i := 181) rfl), lw_t4 (List.mem_of_getElem? (i := 182) rfl)⟩
theorem lw_p27 : lw_okq (⟨"BellLotsModel", "fits", "(I)I"⟩, 29) := ⟨⟨by decide +kernel, by decide +kernel⟩, lw_t4 (List.mem_of_getElem? (i := 32) rfl), lw_t4 (List.mem_of_getElem? (i := 189) rfl), lw_t4 (List.mem_of_getElem? (i := 190) rfl)⟩
theorem lw_p28 : lw_okq (⟨"BellLotsModel", "notes", "()V"⟩, 29) := ⟨⟨by decide +kernel, by decide +kernel⟩, lw_t4 (List.mem_of_getElem? (i := 32) rfl), lw_t4 (List.mem_of_getElem? (i := 209) rfl), lw_t4 (List.mem_of_getElem? (i := 210) rfl)⟩
theorem lw_p29 : lw_okq (⟨"BellLotsModel", "drawn", "([II)I"⟩, 29) := ⟨⟨by decide +kernel, by decide +kernel⟩, lw_t4 (List.mem_of_getElem? (i := 32) rfl), lw_t4 (List.mem_of_getElem? (i := 213) rfl), lw_t4 (List.mem_of_getElem? (i := 214) rfl)⟩
theorem lw_p30 : lw_okq (⟨"BellLotsModel", "draws", "(I)V"⟩, 29) := ⟨⟨by decide +kernel, by decide +kernel⟩, lw_t4 (List.mem_of_getElem? (i := 32) rfl), lw_t4 (List.mem_of_getElem? (i := 217) rfl), lw_t4 (List.mem_of_getElem? (i := 218) rfl)⟩
theorem lw_p31 : lw_okq (⟨"BellLotsModel", "cuts", "([I)I"⟩, 29) := ⟨⟨by decide +kernel, by decide +kernel⟩, lw_t4 (List.mem_of_getElem? (i := 32) rfl), lw_t4 (List.mem_of_getElem? (i := 225) rfl), lw_t4 (List.mem_of_getElem? (i := 226) rfl)⟩
def lw_privs_2 : List (MethodName × Nat) := [(⟨"BellLots", "areCrossed", "(II)Z"⟩, 19), (⟨"BellLots", "ways", "(II)I"⟩, 19), (⟨"BellLotsModel", "advances", "()V"⟩, 29), (⟨"BellLotsModel", "letterAt", "(I)I"⟩, 29), (⟨"BellLotsModel", "isWell", "()Z"⟩, 29), (⟨"BellLotsModel", "takes", "(Z)I"⟩, 29), (⟨"BellLotsModel", "readsItem", "(I)V"⟩, 29), (⟨"BellLotsModel", "number", "(II)I"⟩, 29), (⟨"BellLotsModel", "settles", "()V"⟩, 29), (⟨"BellLotsModel", "isTown", "(I)Z"⟩, 29), (⟨"BellLotsModel", "isDumb", "(I)Z"⟩, 29), (⟨"BellLotsModel", "fits", "(I)I"⟩, 29), (⟨"BellLotsModel", "notes", "()V"⟩, 29), (⟨"BellLotsModel", "drawn", "([II)I"⟩, 29), (⟨"BellLotsModel", "draws", "(I)V"⟩, 29), (⟨"BellLotsModel", "cuts", "([I)I"⟩, 29)]
theorem lw_r2 : ∀ q ∈ lw_privs_2, lw_okq q := List.forall_mem_cons.mpr ⟨lw_p16, List.forall_mem_cons.mpr ⟨lw_p17, List.forall_mem_cons.mpr ⟨lw_p18, List.forall_mem_cons.mpr ⟨lw_p19, List.forall_mem_cons.mpr ⟨lw_p20, List.forall_mem_cons.mpr ⟨lw_p21, List.forall_mem_cons.mpr ⟨lw_p22, List.forall_mem_cons.mpr ⟨lw_p23, List.forall_mem_cons.mpr ⟨lw_p24, List.forall_mem_cons.mpr ⟨lw_p25, List.forall_mem_cons.mpr ⟨lw_p26, List.forall_mem_cons.mpr ⟨lw_p27, List.forall_mem_cons.mpr ⟨lw_p28, List.forall_mem_cons.mpr ⟨lw_p29, List.forall_mem_cons.mpr ⟨lw_p30, List.forall_mem_cons.mpr ⟨lw_p31, fun _ h => absurd h List.not_mem_nil⟩⟩⟩⟩⟩⟩⟩⟩⟩⟩⟩⟩⟩⟩⟩⟩
theorem lw_p32 : lw_okq (⟨"BellLotsModel", "asNow", "()V"⟩, 29) := ⟨⟨by decide +kernel, by decide +kernel⟩, lw_t4 (List.mem_of_getElem? (i := 32) rfl), lw_t5 (List.mem_of_getElem? (i := 5) rfl), lw_t5 (List.mem_of_getElem? (i := 6) rfl)⟩
theorem lw_p33 : lw_okq (⟨"BellLotsModel", "rows", "()I"⟩, 29) := ⟨⟨by decide +kernel, by decide +kernel⟩, lw_t4 (List.mem_of_getElem? (i := 32) rfl), lw_t5 (List.mem_of_getElem? (i := 21) rfl), lw_t5 (List.mem_of_getElem? (i := 22) rfl)⟩
theorem lw_p34 : lw_okq (⟨"BellLotsModel", "isRow", "(I)Z"⟩, 29) := ⟨⟨by decide +kernel, by decide +kernel⟩, lw_t4 (List.mem_of_getElem? (i := 32) rfl), lw_t5 (List.mem_of_getElem? (i := 25) rfl), lw_t5 (List.mem_of_getElem? (i := 26) rfl)⟩
theorem lw_p35 : lw_okq (⟨"BellLotsModel", "isBorne", "()Z"⟩, 29) := ⟨⟨by decide +kernel, by decide +kernel⟩, lw_t4 (List.mem_of_getElem? (i := 32) rfl), lw_t5 (List.mem_of_getElem? (i := 29) rfl), lw_t5 (List.mem_of_getElem? (i := 30) rfl)⟩
theorem lw_p36 : lw_okq (⟨"BellLotsModel", "costOfRow", "()I"⟩, 29) := ⟨⟨by decide +kernel, by decide +kernel⟩, lw_t4 (List.mem_of_getElem? (i := 32) rfl), lw_t5 (List.mem_of_getElem? (i := 33) rfl), lw_t5 (List.mem_of_getElem? (i := 34) rfl)⟩
theorem lw_p37 : lw_okq (⟨"BellLotsModel", "roads", "()I"⟩, 29) := ⟨⟨by decide +kernel, by decide +kernel⟩, lw_t4 (List.mem_of_getElem? (i := 32) rfl), lw_t5 (List.mem_of_getElem? (i := 94) rfl), lw_t5 (List.mem_of_getElem? (i := 95) rfl)⟩
def lw_privs_3 : List (MethodName × Nat) := [(⟨"BellLotsModel", "asNow", "()V"⟩, 29), (⟨"BellLotsModel", "rows", "()I"⟩, 29), (⟨"BellLotsModel", "isRow", "(I)Z"⟩, 29), (⟨"BellLotsModel", "isBorne", "()Z"⟩, 29), (⟨"BellLotsModel", "costOfRow", "()I"⟩, 29), (⟨"BellLotsModel", "roads", "()I"⟩, 29)]
theorem lw_r3 : ∀ q ∈ lw_privs_3, lw_okq q := List.forall_mem_cons.mpr ⟨lw_p32, List.forall_mem_cons.mpr ⟨lw_p33, List.forall_mem_cons.mpr ⟨lw_p34, List.forall_mem_cons.mpr ⟨lw_p35, List.forall_mem_cons.mpr ⟨lw_p36, List.forall_mem_cons.mpr ⟨lw_p37, fun _ h => absurd h List.not_mem_nil⟩⟩⟩⟩⟩⟩
def lw_privs : List (MethodName × Nat) := lw_privs_1 ++ (lw_privs_2 ++ (lw_privs_3))
def lw_tbl : List Cond := k2_sels lw_privs ++ tables_1
theorem lw_privs_ok : ∀ q ∈ lw_privs, lw_okq q := by
  show ∀ q ∈ lw_privs_1 ++ (lw_privs_2 ++ (lw_privs_3)), lw_okq q
  exact List.forall_mem_append.mpr ⟨lw_r1, List.forall_mem_append.mpr ⟨lw_r2, lw_r3⟩⟩
-- ===== ONE list of words for every method: the tables' words that hold all through a run =====
def lw_all : List Cond := lw_tbl.filter goodWord
/-- a word of the tables by its place: claim/WORDS.tsv -/
theorem lw_w {w : Cond} (i : Nat) (h : lw_tbl[i]? = some w) (g : goodWord w = true) : w ∈ lw_all := List.mem_filter.mpr ⟨List.mem_of_getElem? h, g⟩
theorem lw_all_tbl {w : Cond} (h : w ∈ lw_all) : w ∈ lw_tbl := (List.mem_filter.mp h).1
theorem lw_self : GoodIn lw_all lw_all := fun w h => ⟨h, good_of_word (List.mem_filter.mp h).2⟩
/-- a class's field words, by their places -/
theorem lw_in (ws : List Cond) (ps : List Nat) (hp : ws = ps.filterMap (fun i => lw_tbl[i]?)) (hg : ws.all goodWord = true) : ∀ w ∈ ws, w ∈ lw_all := by
  intro w h
  have h1 := List.all_eq_true.mp hg w h
  rw [hp] at h
  obtain ⟨i, -, hi⟩ := List.mem_filterMap.mp h
  exact lw_w i hi h1
/-- the words of a contract for the method y with code b, L locals, answer r -/
abbrev ws_ (y : MethodName) (b : ByteArray) (L : Nat) (r : Option FieldType) : List Cond := Cond.code y b L r :: lw_all
theorem lw_meth {y : MethodName} {b : ByteArray} {L : Nat} {r : Option FieldType} (h : Cond.code y b L r ∈ lw_all) : GoodIn lw_all (ws_ y b L r) := by
  intro w hw
  rcases List.mem_cons.mp hw with e | e
  · rw [e]
    exact lw_self _ h
  · exact lw_self _ e
theorem lw_app {a c : List Cond} (ha : ∀ w ∈ a, w ∈ lw_all) (hc : GoodIn lw_all c) : GoodIn lw_all (a ++ c) := by
  intro w hw
  rcases List.mem_append.mp hw with e | e
  · exact lw_self w (ha w e)
  · exact hc w e
/-- what a call through an object asks: cwV n hts (lw_V ..) -/
theorem lw_V {own : String} {idx : Nat} {C : String} {y : MethodName} {b : ByteArray} {L : Nat} {r : Option FieldType} (h1 : Cond.methodLink own idx y ∈ lw_all) (h2 : Cond.instanceMethod y ∈ lw_all) (h3 : Cond.selects C y y ∈ lw_all) (h4 : Cond.initialized C ∈ lw_all) (h5 : Cond.code y b L r ∈ lw_all) : GoodIn lw_all (wsV own idx C y (ws_ y b L r)) := by
  refine lw_app ?_ (lw_meth h5)
  intro w hw
  simp only [List.mem_cons, List.not_mem_nil, or_false] at hw
  rcases hw with e | e | e | e
  · rw [e]; exact h1
  · rw [e]; exact h2
  · rw [e]; exact h3
  · rw [e]; exact h4
/-- what a static call asks: va_cwS n hts (lw_S ..) -/
theorem lw_S {own : String} {idx : Nat} {y : MethodName} {b : ByteArray} {L : Nat} {r : Option FieldType} (h1 : Cond.methodLink own idx y ∈ lw_all) (h2 : Cond.static y ∈ lw_all) (h3 : Cond.initialized y.cls ∈ lw_all) (h4 : Cond.code y b L r ∈ lw_all) : GoodIn lw_all (va_wsS own idx y (ws_ y b L r)) := by
  refine lw_app ?_ (lw_meth h4)
  intro w hw
  simp only [List.mem_cons, List.not_mem_nil, or_false] at hw
  rcases hw with e | e | e
  · rw [e]; exact h1
  · rw [e]; exact h2
  · rw [e]; exact h3
/-- the words of a contract for a method WITH HANDLERS (hh: its table) -/
abbrev wsW_ (y : MethodName) (b : ByteArray) (L : Nat) (r : Option FieldType) (hh : List (Nat × Nat × Nat × Nat)) : List Cond := Cond.codeWith y b L r hh :: lw_all
theorem lw_methW {y : MethodName} {b : ByteArray} {L : Nat} {r : Option FieldType} {hh : List (Nat × Nat × Nat × Nat)} (h : Cond.codeWith y b L r hh ∈ lw_all) : GoodIn lw_all (wsW_ y b L r hh) := by
  intro w hw
  rcases List.mem_cons.mp hw with e | e
  · rw [e]
    exact lw_self _ h
  · exact lw_self _ e
/-- any list of words by their places (lw_in), good -/
theorem lw_good {ws : List Cond} (h : ∀ w ∈ ws, w ∈ lw_all) : GoodIn lw_all ws := fun w hw => lw_self w (h w hw)
/-- what a call of a method with handlers asks: vx_cwVW n hts (lw_VW ..), vx_cwSW n hts (lw_SW ..) -/
theorem lw_VW {own : String} {idx : Nat} {C : String} {y : MethodName} {b : ByteArray} {L : Nat} {r : Option FieldType} {hh : List (Nat × Nat × Nat × Nat)} (h1 : Cond.methodLink own idx y ∈ lw_all) (h2 : Cond.instanceMethod y ∈ lw_all) (h3 : Cond.selects C y y ∈ lw_all) (h4 : Cond.initialized C ∈ lw_all) (h5 : Cond.codeWith y b L r hh ∈ lw_all) : GoodIn lw_all (wsV own idx C y (wsW_ y b L r hh)) := by
  refine lw_app ?_ (lw_methW h5)
  intro w hw
  simp only [List.mem_cons, List.not_mem_nil, or_false] at hw
  rcases hw with e | e | e | e
  · rw [e]; exact h1
  · rw [e]; exact h2
  · rw [e]; exact h3
  · rw [e]; exact h4
theorem lw_SW {own : String} {idx : Nat} {y : MethodName} {b : ByteArray} {L : Nat} {r : Option FieldType} {hh : List (Nat × Nat × Nat × Nat)} (h1 : Cond.methodLink own idx y ∈ lw_all) (h2 : Cond.static y ∈ lw_all) (h3 : Cond.initialized y.cls ∈ lw_all) (h4 : Cond.codeWith y b L r hh ∈ lw_all) : GoodIn lw_all (va_wsS own idx y (wsW_ y b L r hh)) := by
  refine lw_app ?_ (lw_methW h4)
  intro w hw
  simp only [List.mem_cons, List.not_mem_nil, or_false] at hw
  rcases hw with e | e | e
  · rw [e]; exact h1
  · rw [e]; exact h2
  · rw [e]; exact h3
/-- a word by its place in its run of the tables -/
theorem lw_at {r : List Cond} (hr : ∀ w ∈ r, w ∈ lw_tbl) {w : Cond} (i : Nat) (h : r[i]? = some w) : w ∈ lw_tbl := hr w (List.mem_of_getElem? h)
theorem lw_g {w : Cond} (h : w ∈ lw_tbl) (g : goodWord w = true) : w ∈ lw_all := List.mem_filter.mpr ⟨h, g⟩
theorem lw_ms : ∀ w ∈ k2_sels lw_privs, w ∈ lw_tbl := fun w h => show w ∈ k2_sels lw_privs ++ tables_1 from List.mem_append_left _ h
theorem lw_m1 : ∀ w ∈ tables_1_1, w ∈ lw_tbl := fun w h => show w ∈ k2_sels lw_privs ++ tables_1 from List.mem_append_right (k2_sels lw_privs) (show w ∈ tables_1 from List.mem_append_left _ h)
theorem lw_m2 : ∀ w ∈ tables_1_2, w ∈ lw_tbl := fun w h => show w ∈ k2_sels lw_privs ++ tables_1 from List.mem_append_right (k2_sels lw_privs) (show w ∈ tables_1 from List.mem_append_right _ (List.mem_append_left _ h))
theorem lw_m3 : ∀ w ∈ tables_1_3, w ∈ lw_tbl := fun w h => show w ∈ k2_sels lw_privs ++ tables_1 from List.mem_append_right (k2_sels lw_privs) (show w ∈ tables_1 from List.mem_append_right _ (List.mem_append_right _ (List.mem_append_left _ h)))
theorem lw_m4 : ∀ w ∈ tables_1_4, w ∈ lw_tbl := fun w h => show w ∈ k2_sels lw_privs ++ tables_1 from List.mem_append_right (k2_sels lw_privs) (show w ∈ tables_1 from List.mem_append_right _ (List.mem_append_right _ (List.mem_append_right _ (List.mem_append_left _ h))))
theorem lw_m5 : ∀ w ∈ tables_1_5, w ∈ lw_tbl := fun w h => show w ∈ k2_sels lw_privs ++ tables_1 from List.mem_append_right (k2_sels lw_privs) (show w ∈ tables_1 from List.mem_append_right _ (List.mem_append_right _ (List.mem_append_right _ (List.mem_append_right _ h))))
theorem qs0 : (Cond.selects "BellLots" ⟨"BellLots", "plains", "(I)[LBellLots$Plain;"⟩ ⟨"BellLots", "plains", "(I)[LBellLots$Plain;"⟩) ∈ lw_all := lw_g (lw_at lw_ms 0 rfl) rfl
theorem qs1 : (Cond.selects "BellLots$Reader" ⟨"BellLots$Reader", "step", "()V"⟩ ⟨"BellLots$Reader", "step", "()V"⟩) ∈ lw_all := lw_g (lw_at lw_ms 1 rfl) rfl
theorem qs2 : (Cond.selects "BellLots$Reader" ⟨"BellLots$Reader", "here", "()I"⟩ ⟨"BellLots$Reader", "here", "()I"⟩) ∈ lw_all := lw_g (lw_at lw_ms 2 rfl) rfl
theorem qs3 : (Cond.selects "BellLots$Reader" ⟨"BellLots$Reader", "may", "(I)Z"⟩ ⟨"BellLots$Reader", "may", "(I)Z"⟩) ∈ lw_all := lw_g (lw_at lw_ms 3 rfl) rfl
theorem qs4 : (Cond.selects "BellLots$Reader" ⟨"BellLots$Reader", "due", "(Z)I"⟩ ⟨"BellLots$Reader", "due", "(Z)I"⟩) ∈ lw_all := lw_g (lw_at lw_ms 4 rfl) rfl
theorem qs5 : (Cond.selects "java/lang/Throwable" ⟨"java/lang/Throwable", "fillInStackTrace", "(I)Ljava/lang/Throwable;"⟩ ⟨"java/lang/Throwable", "fillInStackTrace", "(I)Ljava/lang/Throwable;"⟩) ∈ lw_all := lw_g (lw_at lw_ms 5 rfl) rfl
theorem qs6 : (Cond.selects "BellLots$Reader" ⟨"BellLots$Reader", "item", "(I)V"⟩ ⟨"BellLots$Reader", "item", "(I)V"⟩) ∈ lw_all := lw_g (lw_at lw_ms 6 rfl) rfl
theorem qs7 : (Cond.selects "BellLots$Reader" ⟨"BellLots$Reader", "number", "(II)I"⟩ ⟨"BellLots$Reader", "number", "(II)I"⟩) ∈ lw_all := lw_g (lw_at lw_ms 7 rfl) rfl
theorem qs8 : (Cond.selects "BellLots$Reader" ⟨"BellLots$Reader", "town", "()I"⟩ ⟨"BellLots$Reader", "town", "()I"⟩) ∈ lw_all := lw_g (lw_at lw_ms 8 rfl) rfl
theorem qs9 : (Cond.selects "BellLots" ⟨"BellLots", "isTown", "(I)Z"⟩ ⟨"BellLots", "isTown", "(I)Z"⟩) ∈ lw_all := lw_g (lw_at lw_ms 9 rfl) rfl
theorem qs10 : (Cond.selects "BellLots" ⟨"BellLots", "fits", "(I)I"⟩ ⟨"BellLots", "fits", "(I)I"⟩) ∈ lw_all := lw_g (lw_at lw_ms 10 rfl) rfl
theorem qs11 : (Cond.selects "BellLots" ⟨"BellLots", "know", "()V"⟩ ⟨"BellLots", "know", "()V"⟩) ∈ lw_all := lw_g (lw_at lw_ms 11 rfl) rfl
theorem qs12 : (Cond.selects "BellLots$Plain" ⟨"BellLots$Plain", "over", "()V"⟩ ⟨"BellLots$Plain", "over", "()V"⟩) ∈ lw_all := lw_g (lw_at lw_ms 12 rfl) rfl
theorem qs13 : (Cond.selects "BellLots" ⟨"BellLots", "lotOf", "(I)V"⟩ ⟨"BellLots", "lotOf", "(I)V"⟩) ∈ lw_all := lw_g (lw_at lw_ms 13 rfl) rfl
theorem qs14 : (Cond.selects "BellLots$Plain" ⟨"BellLots$Plain", "cutAll", "()I"⟩ ⟨"BellLots$Plain", "cutAll", "()I"⟩) ∈ lw_all := lw_g (lw_at lw_ms 14 rfl) rfl
theorem qs15 : (Cond.selects "BellLots" ⟨"BellLots", "hangFrom", "(III)V"⟩ ⟨"BellLots", "hangFrom", "(III)V"⟩) ∈ lw_all := lw_g (lw_at lw_ms 15 rfl) rfl
theorem qs16 : (Cond.selects "BellLots" ⟨"BellLots", "areCrossed", "(II)Z"⟩ ⟨"BellLots", "areCrossed", "(II)Z"⟩) ∈ lw_all := lw_g (lw_at lw_ms 16 rfl) rfl
theorem qs17 : (Cond.selects "BellLots" ⟨"BellLots", "ways", "(II)I"⟩ ⟨"BellLots", "ways", "(II)I"⟩) ∈ lw_all := lw_g (lw_at lw_ms 17 rfl) rfl
theorem qs18 : (Cond.selects "BellLotsModel" ⟨"BellLotsModel", "advances", "()V"⟩ ⟨"BellLotsModel", "advances", "()V"⟩) ∈ lw_all := lw_g (lw_at lw_ms 18 rfl) rfl
theorem qs19 : (Cond.selects "BellLotsModel" ⟨"BellLotsModel", "letterAt", "(I)I"⟩ ⟨"BellLotsModel", "letterAt", "(I)I"⟩) ∈ lw_all := lw_g (lw_at lw_ms 19 rfl) rfl
theorem qs20 : (Cond.selects "BellLotsModel" ⟨"BellLotsModel", "isWell", "()Z"⟩ ⟨"BellLotsModel", "isWell", "()Z"⟩) ∈ lw_all := lw_g (lw_at lw_ms 20 rfl) rfl
theorem qs21 : (Cond.selects "BellLotsModel" ⟨"BellLotsModel", "takes", "(Z)I"⟩ ⟨"BellLotsModel", "takes", "(Z)I"⟩) ∈ lw_all := lw_g (lw_at lw_ms 21 rfl) rfl
theorem qs22 : (Cond.selects "BellLotsModel" ⟨"BellLotsModel", "readsItem", "(I)V"⟩ ⟨"BellLotsModel", "readsItem", "(I)V"⟩) ∈ lw_all := lw_g (lw_at lw_ms 22 rfl) rfl
theorem qs23 : (Cond.selects "BellLotsModel" ⟨"BellLotsModel", "number", "(II)I"⟩ ⟨"BellLotsModel", "number", "(II)I"⟩) ∈ lw_all := lw_g (lw_at lw_ms 23 rfl) rfl
theorem qs24 : (Cond.selects "BellLotsModel" ⟨"BellLotsModel", "settles", "()V"⟩ ⟨"BellLotsModel", "settles", "()V"⟩) ∈ lw_all := lw_g (lw_at lw_ms 24 rfl) rfl
theorem qs25 : (Cond.selects "BellLotsModel" ⟨"BellLotsModel", "isTown", "(I)Z"⟩ ⟨"BellLotsModel", "isTown", "(I)Z"⟩) ∈ lw_all := lw_g (lw_at lw_ms 25 rfl) rfl
theorem qs26 : (Cond.selects "BellLotsModel" ⟨"BellLotsModel", "isDumb", "(I)Z"⟩ ⟨"BellLotsModel", "isDumb", "(I)Z"⟩) ∈ lw_all := lw_g (lw_at lw_ms 26 rfl) rfl
theorem qs27 : (Cond.selects "BellLotsModel" ⟨"BellLotsModel", "fits", "(I)I"⟩ ⟨"BellLotsModel", "fits", "(I)I"⟩) ∈ lw_all := lw_g (lw_at lw_ms 27 rfl) rfl
theorem qs28 : (Cond.selects "BellLotsModel" ⟨"BellLotsModel", "notes", "()V"⟩ ⟨"BellLotsModel", "notes", "()V"⟩) ∈ lw_all := lw_g (lw_at lw_ms 28 rfl) rfl
theorem qs29 : (Cond.selects "BellLotsModel" ⟨"BellLotsModel", "drawn", "([II)I"⟩ ⟨"BellLotsModel", "drawn", "([II)I"⟩) ∈ lw_all := lw_g (lw_at lw_ms 29 rfl) rfl
theorem qs30 : (Cond.selects "BellLotsModel" ⟨"BellLotsModel", "draws", "(I)V"⟩ ⟨"BellLotsModel", "draws", "(I)V"⟩) ∈ lw_all := lw_g (lw_at lw_ms 30 rfl) rfl
theorem qs31 : (Cond.selects "BellLotsModel" ⟨"BellLotsModel", "cuts", "([I)I"⟩ ⟨"BellLotsModel", "cuts", "([I)I"⟩) ∈ lw_all := lw_g (lw_at lw_ms 31 rfl) rfl
theorem qs32 : (Cond.selects "BellLotsModel" ⟨"BellLotsModel", "asNow", "()V"⟩ ⟨"BellLotsModel", "asNow", "()V"⟩) ∈ lw_all := lw_g (lw_at lw_ms 32 rfl) rfl
theorem qs33 : (Cond.selects "BellLotsModel" ⟨"BellLotsModel", "rows", "()I"⟩ ⟨"BellLotsModel", "rows", "()I"⟩) ∈ lw_all := lw_g (lw_at lw_ms 33 rfl) rfl
theorem qs34 : (Cond.selects "BellLotsModel" ⟨"BellLotsModel", "isRow", "(I)Z"⟩ ⟨"BellLotsModel", "isRow", "(I)Z"⟩) ∈ lw_all := lw_g (lw_at lw_ms 34 rfl) rfl
theorem qs35 : (Cond.selects "BellLotsModel" ⟨"BellLotsModel", "isBorne", "()Z"⟩ ⟨"BellLotsModel", "isBorne", "()Z"⟩) ∈ lw_all := lw_g (lw_at lw_ms 35 rfl) rfl
theorem qs36 : (Cond.selects "BellLotsModel" ⟨"BellLotsModel", "costOfRow", "()I"⟩ ⟨"BellLotsModel", "costOfRow", "()I"⟩) ∈ lw_all := lw_g (lw_at lw_ms 36 rfl) rfl
theorem qs37 : (Cond.selects "BellLotsModel" ⟨"BellLotsModel", "roads", "()I"⟩ ⟨"BellLotsModel", "roads", "()I"⟩) ∈ lw_all := lw_g (lw_at lw_ms 37 rfl) rfl
