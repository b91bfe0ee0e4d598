-- ===== PART A: goes FIRST, ahead of the names: the tables' words, and 'selects' of the private methods out of them =====
/-- a private method of a class that the tables say can be made, by its rows of tables_1 -/
def lw_okq (q : MethodName × Nat) : Prop := (q.1.cls ≠ "java/lang/invoke/MethodHandle" ∧ q.1.cls ≠ "java/lang/invoke/VarHandle") ∧ Cond.instantiable q.1.cls q.2 ∈ tables_1 ∧ Cond.privateMethod q.1 ∈ tables_1 ∧ Cond.instanceMethod q.1 ∈ tables_1
set_option maxRecDepth 100000
theorem lw_t1 {w : Cond} (h : w ∈ tables_1_1) : w ∈ tables_1 := List.mem_append_left _ h
theorem lw_t2 {w : Cond} (h : w ∈ tables_1_2) : w ∈ tables_1 := List.mem_append_right _ (List.mem_append_left _ h)
theorem lw_t3 {w : Cond} (h : w ∈ tables_1_3) : w ∈ tables_1 := List.mem_append_right _ (List.mem_append_right _ (List.mem_append_left _ h))
theorem lw_t4 {w : Cond} (h : w ∈ tables_1_4) : w ∈ tables_1 := List.mem_append_right _ (List.mem_append_right _ (List.mem_append_right _ (List.mem_append_left _ h)))
theorem lw_t5 {w : Cond} (h : w ∈ tables_1_5) : w ∈ tables_1 := List.mem_append_right _ (List.mem_append_right _ (List.mem_append_right _ (List.mem_append_right _ h)))
theorem lw_p0 : lw_okq (⟨"DeadlineTree", "readAll", "()I"⟩, 15) := ⟨⟨by decide +kernel, by decide +kernel⟩, lw_t1 (List.mem_of_getElem? (i := 22) rfl), lw_t1 (List.mem_of_getElem? (i := 218) rfl), lw_t1 (List.mem_of_getElem? (i := 219) rfl)⟩
theorem lw_p1 : lw_okq (⟨"DeadlineTree", "item", "()V"⟩, 15) := ⟨⟨by decide +kernel, by decide +kernel⟩, lw_t1 (List.mem_of_getElem? (i := 22) rfl), lw_t1 (List.mem_of_getElem? (i := 227) rfl), lw_t1 (List.mem_of_getElem? (i := 228) rfl)⟩
theorem lw_p2 : lw_okq (⟨"DeadlineTree", "letterAt", "(I)I"⟩, 15) := ⟨⟨by decide +kernel, by decide +kernel⟩, lw_t1 (List.mem_of_getElem? (i := 22) rfl), lw_t1 (List.mem_of_getElem? (i := 231) rfl), lw_t1 (List.mem_of_getElem? (i := 232) rfl)⟩
theorem lw_p3 : lw_okq (⟨"DeadlineTree", "expect", "(Z)V"⟩, 15) := ⟨⟨by decide +kernel, by decide +kernel⟩, lw_t1 (List.mem_of_getElem? (i := 22) rfl), lw_t1 (List.mem_of_getElem? (i := 235) rfl), lw_t1 (List.mem_of_getElem? (i := 236) rfl)⟩
theorem lw_p4 : lw_okq (⟨"java/lang/NullPointerException", "getExtendedNPEMessage", "()Ljava/lang/String;"⟩, 8) := ⟨⟨by decide +kernel, by decide +kernel⟩, lw_t2 (List.mem_of_getElem? (i := 36) rfl), lw_t2 (List.mem_of_getElem? (i := 34) rfl), lw_t2 (List.mem_of_getElem? (i := 35) rfl)⟩
theorem lw_p5 : lw_okq (⟨"java/lang/Throwable", "fillInStackTrace", "(I)Ljava/lang/Throwable;"⟩, 6) := ⟨⟨by decide +kernel, by decide +kernel⟩, lw_t2 (List.mem_of_getElem? (i := 48) rfl), lw_t2 (List.mem_of_getElem? (i := 46) rfl), lw_t2 (List.mem_of_getElem? (i := 47) rfl)⟩
theorem lw_p6 : lw_okq (⟨"DeadlineTree", "number", "(III)I"⟩, 15) := ⟨⟨by decide +kernel, by decide +kernel⟩, lw_t1 (List.mem_of_getElem? (i := 22) rfl), lw_t2 (List.mem_of_getElem? (i := 77) rfl), lw_t2 (List.mem_of_getElem? (i := 78) rfl)⟩
theorem lw_p7 : lw_okq (⟨"DeadlineTree", "isFigure", "()Z"⟩, 15) := ⟨⟨by decide +kernel, by decide +kernel⟩, lw_t1 (List.mem_of_getElem? (i := 22) rfl), lw_t2 (List.mem_of_getElem? (i := 81) rfl), lw_t2 (List.mem_of_getElem? (i := 82) rfl)⟩
theorem lw_p8 : lw_okq (⟨"DeadlineTree$State", "leaf", "(I)LDeadlineTree$Node;"⟩, 13) := ⟨⟨by decide +kernel, by decide +kernel⟩, lw_t1 (List.mem_of_getElem? (i := 32) rfl), lw_t2 (List.mem_of_getElem? (i := 110) rfl), lw_t2 (List.mem_of_getElem? (i := 111) rfl)⟩
theorem lw_p9 : lw_okq (⟨"DeadlineTree$State", "part", "(LDeadlineTree$Node;I)LDeadlineTree$Node;"⟩, 13) := ⟨⟨by decide +kernel, by decide +kernel⟩, lw_t1 (List.mem_of_getElem? (i := 32) rfl), lw_t2 (List.mem_of_getElem? (i := 118) rfl), lw_t2 (List.mem_of_getElem? (i := 119) rfl)⟩
theorem lw_p10 : lw_okq (⟨"DeadlineTree$State", "push", "(LDeadlineTree$Node;I)V"⟩, 13) := ⟨⟨by decide +kernel, by decide +kernel⟩, lw_t1 (List.mem_of_getElem? (i := 32) rfl), lw_t2 (List.mem_of_getElem? (i := 131) rfl), lw_t2 (List.mem_of_getElem? (i := 132) rfl)⟩
theorem lw_p11 : lw_okq (⟨"DeadlineTree$State", "level", "(II)I"⟩, 13) := ⟨⟨by decide +kernel, by decide +kernel⟩, lw_t1 (List.mem_of_getElem? (i := 32) rfl), lw_t2 (List.mem_of_getElem? (i := 191) rfl), lw_t2 (List.mem_of_getElem? (i := 192) rfl)⟩
theorem lw_p12 : lw_okq (⟨"DeadlineTree$State", "levelled", "(LDeadlineTree$Node;)LDeadlineTree$Node;"⟩, 13) := ⟨⟨by decide +kernel, by decide +kernel⟩, lw_t1 (List.mem_of_getElem? (i := 32) rfl), lw_t2 (List.mem_of_getElem? (i := 200) rfl), lw_t2 (List.mem_of_getElem? (i := 201) rfl)⟩
theorem lw_p13 : lw_okq (⟨"DeadlineTree$State", "gather", "(LDeadlineTree$Node;)V"⟩, 13) := ⟨⟨by decide +kernel, by decide +kernel⟩, lw_t1 (List.mem_of_getElem? (i := 32) rfl), lw_t2 (List.mem_of_getElem? (i := 204) rfl), lw_t2 (List.mem_of_getElem? (i := 205) rfl)⟩
theorem lw_p14 : lw_okq (⟨"DeadlineTree$State", "release", "(LDeadlineTree$Node;)V"⟩, 13) := ⟨⟨by decide +kernel, by decide +kernel⟩, lw_t1 (List.mem_of_getElem? (i := 32) rfl), lw_t2 (List.mem_of_getElem? (i := 208) rfl), lw_t2 (List.mem_of_getElem? (i := 209) rfl)⟩
theorem lw_p15 : lw_okq (⟨"DeadlineTree$State", "build", "(II)LDeadlineTree$Node;"⟩, 13) := ⟨⟨by decide +kernel, by decide +kernel⟩, lw_t1 (List.mem_of_getElem? (i := 32) rfl), lw_t2 (List.mem_of_getElem? (i := 212) rfl), lw_t2 (List.mem_of_getElem? (i := 213) rfl)⟩
def lw_privs_1 : List (MethodName × Nat) := [(⟨"DeadlineTree", "readAll", "()I"⟩, 15), (⟨"DeadlineTree", "item", "()V"⟩, 15), (⟨"DeadlineTree", "letterAt", "(I)I"⟩, 15), (⟨"DeadlineTree", "expect", "(Z)V"⟩, 15), (⟨"java/lang/NullPointerException", "getExtendedNPEMessage", "()Ljava/lang/String;"⟩, 8), (⟨"java/lang/Throwable", "fillInStackTrace", "(I)Ljava/lang/Throwable;"⟩, 6), (⟨"DeadlineTree", "number", "(III)I"⟩, 15), (⟨"DeadlineTree", "isFigure", "()Z"⟩, 15), (⟨"DeadlineTree$State", "leaf", "(I)LDeadlineTree$Node;"⟩, 13), (⟨"DeadlineTree$State", "part", "(LDeadlineTree$Node;I)LDeadlineTree$Node;"⟩, 13), (⟨"DeadlineTree$State", "push", "(LDeadlineTree$Node;I)V"⟩, 13), (⟨"DeadlineTree$State", "level", "(II)I"⟩, 13), (⟨"DeadlineTree$State", "levelled", "(LDeadlineTree$Node;)LDeadlineTree$Node;"⟩, 13), (⟨"DeadlineTree$State", "gather", "(LDeadlineTree$Node;)V"⟩, 13), (⟨"DeadlineTree$State", "release", "(LDeadlineTree$Node;)V"⟩, 13), (⟨"DeadlineTree$State", "build", "(II)LDeadlineTree$Node;"⟩, 13)]
theorem lw_r1 : ∀ q ∈ lw_privs_1, lw_okq q := List.forall_mem_cons.mpr ⟨lw_p0, List.forall_mem_cons.mpr ⟨lw_p1, List.forall_mem_cons.mpr ⟨lw_p2, List.forall_mem_cons.mpr ⟨lw_p3, List.forall_mem_cons.mpr ⟨lw_p4, List.forall_mem_cons.mpr ⟨lw_p5, List.forall_mem_cons.mpr ⟨lw_p6, List.forall_mem_cons.mpr ⟨lw_p7, List.forall_mem_cons.mpr ⟨lw_p8, List.forall_mem_cons.mpr ⟨lw_p9, List.forall_mem_cons.mpr ⟨lw_p10, List.forall_mem_cons.mpr ⟨lw_p11, List.forall_mem_cons.mpr ⟨lw_p12, List.forall_mem_cons.mpr ⟨lw_p13, List.forall_mem_cons.mpr ⟨lw_p14, List.forall_mem_cons.mpr ⟨lw_p15, fun _ h => absurd h List.not_mem_nil⟩⟩⟩⟩⟩⟩⟩⟩⟩⟩⟩⟩⟩⟩⟩⟩
theorem lw_p16 : lw_okq (⟨"DeadlineTree$State", "replace", "(LDeadlineTree$Node;LDeadlineTree$Node;LDeadlineTree$Node;)V"⟩, 13) := ⟨⟨by decide +kernel, by decide +kernel⟩, lw_t1 (List.mem_of_getElem? (i := 32) rfl), lw_t2 (List.mem_of_getElem? (i := 216) rfl), lw_t2 (List.mem_of_getElem? (i := 217) rfl)⟩
theorem lw_p17 : lw_okq (⟨"DeadlineTree$State", "own", "(LDeadlineTree$Node;)LDeadlineTree$Node;"⟩, 13) := ⟨⟨by decide +kernel, by decide +kernel⟩, lw_t1 (List.mem_of_getElem? (i := 32) rfl), lw_t2 (List.mem_of_getElem? (i := 224) rfl), lw_t2 (List.mem_of_getElem? (i := 225) rfl)⟩
theorem lw_p18 : lw_okq (⟨"DeadlineTree", "isJob", "(I)Z"⟩, 15) := ⟨⟨by decide +kernel, by decide +kernel⟩, lw_t1 (List.mem_of_getElem? (i := 22) rfl), lw_t3 (List.mem_of_getElem? (i := 52) rfl), lw_t3 (List.mem_of_getElem? (i := 53) rfl)⟩
theorem lw_p19 : lw_okq (⟨"DeadlineTree", "noteUndo", "()V"⟩, 15) := ⟨⟨by decide +kernel, by decide +kernel⟩, lw_t1 (List.mem_of_getElem? (i := 22) rfl), lw_t3 (List.mem_of_getElem? (i := 104) rfl), lw_t3 (List.mem_of_getElem? (i := 105) rfl)⟩
theorem lw_p20 : lw_okq (⟨"DeadlineTree$State", "vacate", "(I)V"⟩, 13) := ⟨⟨by decide +kernel, by decide +kernel⟩, lw_t1 (List.mem_of_getElem? (i := 32) rfl), lw_t3 (List.mem_of_getElem? (i := 118) rfl), lw_t3 (List.mem_of_getElem? (i := 119) rfl)⟩
theorem lw_p21 : lw_okq (⟨"DeadlineTree$State", "holder", "(I)LDeadlineTree$Node;"⟩, 13) := ⟨⟨by decide +kernel, by decide +kernel⟩, lw_t1 (List.mem_of_getElem? (i := 32) rfl), lw_t3 (List.mem_of_getElem? (i := 122) rfl), lw_t3 (List.mem_of_getElem? (i := 123) rfl)⟩
theorem lw_p22 : lw_okq (⟨"DeadlineTree$State", "pull", "(LDeadlineTree$Node;)V"⟩, 13) := ⟨⟨by decide +kernel, by decide +kernel⟩, lw_t1 (List.mem_of_getElem? (i := 32) rfl), lw_t3 (List.mem_of_getElem? (i := 126) rfl), lw_t3 (List.mem_of_getElem? (i := 127) rfl)⟩
theorem lw_p23 : lw_okq (⟨"DeadlineTree$State", "levelAbove", "(LDeadlineTree$Node;)I"⟩, 13) := ⟨⟨by decide +kernel, by decide +kernel⟩, lw_t1 (List.mem_of_getElem? (i := 32) rfl), lw_t3 (List.mem_of_getElem? (i := 133) rfl), lw_t3 (List.mem_of_getElem? (i := 134) rfl)⟩
theorem lw_p24 : lw_okq (⟨"DeadlineTree", "find", "(III)V"⟩, 15) := ⟨⟨by decide +kernel, by decide +kernel⟩, lw_t1 (List.mem_of_getElem? (i := 22) rfl), lw_t3 (List.mem_of_getElem? (i := 170) rfl), lw_t3 (List.mem_of_getElem? (i := 171) rfl)⟩
theorem lw_p25 : lw_okq (⟨"DeadlineTree", "look", "(LDeadlineTree$Node;III)V"⟩, 15) := ⟨⟨by decide +kernel, by decide +kernel⟩, lw_t1 (List.mem_of_getElem? (i := 22) rfl), lw_t3 (List.mem_of_getElem? (i := 174) rfl), lw_t3 (List.mem_of_getElem? (i := 175) rfl)⟩
theorem lw_p26 : lw_okq (⟨"DeadlineTree", "soonestOf", "(LDeadlineTree$Node;II)I"⟩, 15) := ⟨⟨by decide +kernel, by decide +kernel⟩, lw_t1 (List.mem_of_getElem? (i := 22) rfl), lw_t3 (List.mem_of_getElem? (i := 187) rfl), lw_t3 (List.mem_of_getElem? (i := 188) rfl)⟩
theorem lw_p27 : lw_okq (⟨"DeadlineTree", "leftOf", "(II)I"⟩, 15) := ⟨⟨by decide +kernel, by decide +kernel⟩, lw_t1 (List.mem_of_getElem? (i := 22) rfl), lw_t3 (List.mem_of_getElem? (i := 191) rfl), lw_t3 (List.mem_of_getElem? (i := 192) rfl)⟩
theorem lw_p28 : lw_okq (⟨"DeadlineTree", "lateOf", "(II)I"⟩, 15) := ⟨⟨by decide +kernel, by decide +kernel⟩, lw_t1 (List.mem_of_getElem? (i := 22) rfl), lw_t3 (List.mem_of_getElem? (i := 201) rfl), lw_t3 (List.mem_of_getElem? (i := 202) rfl)⟩
theorem lw_p29 : lw_okq (⟨"DeadlineTree", "next", "(III)I"⟩, 15) := ⟨⟨by decide +kernel, by decide +kernel⟩, lw_t1 (List.mem_of_getElem? (i := 22) rfl), lw_t3 (List.mem_of_getElem? (i := 205) rfl), lw_t3 (List.mem_of_getElem? (i := 206) rfl)⟩
theorem lw_p30 : lw_okq (⟨"DeadlineTree", "leastStart", "(I)I"⟩, 15) := ⟨⟨by decide +kernel, by decide +kernel⟩, lw_t1 (List.mem_of_getElem? (i := 22) rfl), lw_t3 (List.mem_of_getElem? (i := 213) rfl), lw_t3 (List.mem_of_getElem? (i := 214) rfl)⟩
theorem lw_p31 : lw_okq (⟨"DeadlineTree", "goDrawn", "(LDeadlineTree$State;I)I"⟩, 15) := ⟨⟨by decide +kernel, by decide +kernel⟩, lw_t1 (List.mem_of_getElem? (i := 22) rfl), lw_t4 (List.mem_of_getElem? (i := 3) rfl), lw_t4 (List.mem_of_getElem? (i := 4) rfl)⟩
def lw_privs_2 : List (MethodName × Nat) := [(⟨"DeadlineTree$State", "replace", "(LDeadlineTree$Node;LDeadlineTree$Node;LDeadlineTree$Node;)V"⟩, 13), (⟨"DeadlineTree$State", "own", "(LDeadlineTree$Node;)LDeadlineTree$Node;"⟩, 13), (⟨"DeadlineTree", "isJob", "(I)Z"⟩, 15), (⟨"DeadlineTree", "noteUndo", "()V"⟩, 15), (⟨"DeadlineTree$State", "vacate", "(I)V"⟩, 13), (⟨"DeadlineTree$State", "holder", "(I)LDeadlineTree$Node;"⟩, 13), (⟨"DeadlineTree$State", "pull", "(LDeadlineTree$Node;)V"⟩, 13), (⟨"DeadlineTree$State", "levelAbove", "(LDeadlineTree$Node;)I"⟩, 13), (⟨"DeadlineTree", "find", "(III)V"⟩, 15), (⟨"DeadlineTree", "look", "(LDeadlineTree$Node;III)V"⟩, 15), (⟨"DeadlineTree", "soonestOf", "(LDeadlineTree$Node;II)I"⟩, 15), (⟨"DeadlineTree", "leftOf", "(II)I"⟩, 15), (⟨"DeadlineTree", "lateOf", "(II)I"⟩, 15), (⟨"DeadlineTree", "next", "(III)I"⟩, 15), (⟨"DeadlineTree", "leastStart", "(I)I"⟩, 15), (⟨"DeadlineTree", "goDrawn", "(LDeadlineTree$State;I)I"⟩, 15)]
theorem lw_r2 : ∀ q ∈ lw_privs_2, lw_okq q := List.forall_mem_cons.mpr ⟨lw_p16, List.forall_mem_cons.mpr ⟨lw_p17, List.forall_mem_cons.mpr ⟨lw_p18, List.forall_mem_cons.mpr ⟨lw_p19, List.forall_mem_cons.mpr ⟨lw_p20, List.forall_mem_cons.mpr ⟨lw_p21, List.forall_mem_cons.mpr ⟨lw_p22, List.forall_mem_cons.mpr ⟨lw_p23, List.forall_mem_cons.mpr ⟨lw_p24, List.forall_mem_cons.mpr ⟨lw_p25, List.forall_mem_cons.mpr ⟨lw_p26, List.forall_mem_cons.mpr ⟨lw_p27, List.forall_mem_cons.mpr ⟨lw_p28, List.forall_mem_cons.mpr ⟨lw_p29, List.forall_mem_cons.mpr ⟨lw_p30, List.forall_mem_cons.mpr ⟨lw_p31, fun _ h => absurd h List.not_mem_nil⟩⟩⟩⟩⟩⟩⟩⟩⟩⟩⟩⟩⟩⟩⟩⟩
theorem lw_p32 : lw_okq (⟨"DeadlineTree", "cutFrom", "(LDeadlineTree$State;I)I"⟩, 15) := ⟨⟨by decide +kernel, by decide +kernel⟩, lw_t1 (List.mem_of_getElem? (i := 22) rfl), lw_t4 (List.mem_of_getElem? (i := 7) rfl), lw_t4 (List.mem_of_getElem? (i := 8) rfl)⟩
theorem lw_p33 : lw_okq (⟨"DeadlineTree", "vacant", "(LDeadlineTree$Node;)I"⟩, 15) := ⟨⟨by decide +kernel, by decide +kernel⟩, lw_t1 (List.mem_of_getElem? (i := 22) rfl), lw_t4 (List.mem_of_getElem? (i := 24) rfl), lw_t4 (List.mem_of_getElem? (i := 25) rfl)⟩
theorem lw_p34 : lw_okq (⟨"DeadlineTreeModel", "empties", "()V"⟩, 33) := ⟨⟨by decide +kernel, by decide +kernel⟩, lw_t4 (List.mem_of_getElem? (i := 28) rfl), lw_t4 (List.mem_of_getElem? (i := 34) rfl), lw_t4 (List.mem_of_getElem? (i := 35) rfl)⟩
theorem lw_p35 : lw_okq (⟨"DeadlineTreeModel", "comes", "(IIII)I"⟩, 33) := ⟨⟨by decide +kernel, by decide +kernel⟩, lw_t4 (List.mem_of_getElem? (i := 28) rfl), lw_t4 (List.mem_of_getElem? (i := 38) rfl), lw_t4 (List.mem_of_getElem? (i := 39) rfl)⟩
theorem lw_p36 : lw_okq (⟨"DeadlineTreeModel", "newLeaf", "(I)I"⟩, 33) := ⟨⟨by decide +kernel, by decide +kernel⟩, lw_t4 (List.mem_of_getElem? (i := 28) rfl), lw_t4 (List.mem_of_getElem? (i := 45) rfl), lw_t4 (List.mem_of_getElem? (i := 46) rfl)⟩
theorem lw_p37 : lw_okq (⟨"DeadlineTreeModel", "becomesLeaf", "(II)V"⟩, 33) := ⟨⟨by decide +kernel, by decide +kernel⟩, lw_t4 (List.mem_of_getElem? (i := 28) rfl), lw_t4 (List.mem_of_getElem? (i := 49) rfl), lw_t4 (List.mem_of_getElem? (i := 50) rfl)⟩
theorem lw_p38 : lw_okq (⟨"DeadlineTreeModel", "isLeaf", "(I)Z"⟩, 33) := ⟨⟨by decide +kernel, by decide +kernel⟩, lw_t4 (List.mem_of_getElem? (i := 28) rfl), lw_t4 (List.mem_of_getElem? (i := 53) rfl), lw_t4 (List.mem_of_getElem? (i := 54) rfl)⟩
theorem lw_p39 : lw_okq (⟨"DeadlineTreeModel", "settles", "(I)V"⟩, 33) := ⟨⟨by decide +kernel, by decide +kernel⟩, lw_t4 (List.mem_of_getElem? (i := 28) rfl), lw_t4 (List.mem_of_getElem? (i := 60) rfl), lw_t4 (List.mem_of_getElem? (i := 61) rfl)⟩
theorem lw_p40 : lw_okq (⟨"DeadlineTreeModel", "aboveOf", "(I)I"⟩, 33) := ⟨⟨by decide +kernel, by decide +kernel⟩, lw_t4 (List.mem_of_getElem? (i := 28) rfl), lw_t4 (List.mem_of_getElem? (i := 64) rfl), lw_t4 (List.mem_of_getElem? (i := 65) rfl)⟩
theorem lw_p41 : lw_okq (⟨"DeadlineTreeModel", "leans", "(I)Z"⟩, 33) := ⟨⟨by decide +kernel, by decide +kernel⟩, lw_t4 (List.mem_of_getElem? (i := 28) rfl), lw_t4 (List.mem_of_getElem? (i := 68) rfl), lw_t4 (List.mem_of_getElem? (i := 69) rfl)⟩
theorem lw_p42 : lw_okq (⟨"DeadlineTreeModel", "leaves", "(I)I"⟩, 33) := ⟨⟨by decide +kernel, by decide +kernel⟩, lw_t4 (List.mem_of_getElem? (i := 28) rfl), lw_t4 (List.mem_of_getElem? (i := 72) rfl), lw_t4 (List.mem_of_getElem? (i := 73) rfl)⟩
theorem lw_p43 : lw_okq (⟨"DeadlineTreeModel", "levels", "(I)V"⟩, 33) := ⟨⟨by decide +kernel, by decide +kernel⟩, lw_t4 (List.mem_of_getElem? (i := 28) rfl), lw_t4 (List.mem_of_getElem? (i := 76) rfl), lw_t4 (List.mem_of_getElem? (i := 77) rfl)⟩
theorem lw_p44 : lw_okq (⟨"DeadlineTreeModel", "frees", "(I)V"⟩, 33) := ⟨⟨by decide +kernel, by decide +kernel⟩, lw_t4 (List.mem_of_getElem? (i := 28) rfl), lw_t4 (List.mem_of_getElem? (i := 80) rfl), lw_t4 (List.mem_of_getElem? (i := 81) rfl)⟩
theorem lw_p45 : lw_okq (⟨"DeadlineTreeModel", "isJob", "(I)Z"⟩, 33) := ⟨⟨by decide +kernel, by decide +kernel⟩, lw_t4 (List.mem_of_getElem? (i := 28) rfl), lw_t4 (List.mem_of_getElem? (i := 188) rfl), lw_t4 (List.mem_of_getElem? (i := 189) rfl)⟩
theorem lw_p46 : lw_okq (⟨"DeadlineTreeModel", "rank", "(I)I"⟩, 33) := ⟨⟨by decide +kernel, by decide +kernel⟩, lw_t4 (List.mem_of_getElem? (i := 28) rfl), lw_t4 (List.mem_of_getElem? (i := 195) rfl), lw_t4 (List.mem_of_getElem? (i := 196) rfl)⟩
theorem lw_p47 : lw_okq (⟨"DeadlineTreeModel", "rankBy", "(II)I"⟩, 33) := ⟨⟨by decide +kernel, by decide +kernel⟩, lw_t4 (List.mem_of_getElem? (i := 28) rfl), lw_t4 (List.mem_of_getElem? (i := 199) rfl), lw_t4 (List.mem_of_getElem? (i := 200) rfl)⟩
def lw_privs_3 : List (MethodName × Nat) := [(⟨"DeadlineTree", "cutFrom", "(LDeadlineTree$State;I)I"⟩, 15), (⟨"DeadlineTree", "vacant", "(LDeadlineTree$Node;)I"⟩, 15), (⟨"DeadlineTreeModel", "empties", "()V"⟩, 33), (⟨"DeadlineTreeModel", "comes", "(IIII)I"⟩, 33), (⟨"DeadlineTreeModel", "newLeaf", "(I)I"⟩, 33), (⟨"DeadlineTreeModel", "becomesLeaf", "(II)V"⟩, 33), (⟨"DeadlineTreeModel", "isLeaf", "(I)Z"⟩, 33), (⟨"DeadlineTreeModel", "settles", "(I)V"⟩, 33), (⟨"DeadlineTreeModel", "aboveOf", "(I)I"⟩, 33), (⟨"DeadlineTreeModel", "leans", "(I)Z"⟩, 33), (⟨"DeadlineTreeModel", "leaves", "(I)I"⟩, 33), (⟨"DeadlineTreeModel", "levels", "(I)V"⟩, 33), (⟨"DeadlineTreeModel", "frees", "(I)V"⟩, 33), (⟨"DeadlineTreeModel", "isJob", "(I)Z"⟩, 33), (⟨"DeadlineTreeModel", "rank", "(I)I"⟩, 33), (⟨"DeadlineTreeModel", "rankBy", "(II)I"⟩, 33)]
theorem lw_r3 : ∀ q ∈ lw_privs_3, lw_okq q := List.forall_mem_cons.mpr ⟨lw_p32, List.forall_mem_cons.mpr ⟨lw_p33, List.forall_mem_cons.mpr ⟨lw_p34, List.forall_mem_cons.mpr ⟨lw_p35, List.forall_mem_cons.mpr ⟨lw_p36, List.forall_mem_cons.mpr ⟨lw_p37, List.forall_mem_cons.mpr ⟨lw_p38, List.forall_mem_cons.mpr ⟨lw_p39, List.forall_mem_cons.mpr ⟨lw_p40, List.forall_mem_cons.mpr ⟨lw_p41, List.forall_mem_cons.mpr ⟨lw_p42, List.forall_mem_cons.mpr ⟨lw_p43, List.forall_mem_cons.mpr ⟨lw_p44, List.forall_mem_cons.mpr ⟨lw_p45, List.forall_mem_cons.mpr ⟨lw_p46, List.forall_mem_cons.mpr ⟨lw_p47, fun _ h => absurd h List.not_mem_nil⟩⟩⟩⟩⟩⟩⟩⟩⟩⟩⟩⟩⟩⟩⟩⟩
theorem lw_p48 : lw_okq (⟨"DeadlineTreeModel", "holderOf", "(I)I"⟩, 33) := ⟨⟨by decide +kernel, by decide +kernel⟩, lw_t4 (List.mem_of_getElem? (i := 28) rfl), lw_t4 (List.mem_of_getElem? (i := 203) rfl), lw_t4 (List.mem_of_getElem? (i := 204) rfl)⟩
theorem lw_p49 : lw_okq (⟨"DeadlineTreeModel", "setHolds", "()I"⟩, 33) := ⟨⟨by decide +kernel, by decide +kernel⟩, lw_t4 (List.mem_of_getElem? (i := 28) rfl), lw_t4 (List.mem_of_getElem? (i := 207) rfl), lw_t4 (List.mem_of_getElem? (i := 208) rfl)⟩
theorem lw_p50 : lw_okq (⟨"DeadlineTreeModel", "dueOf", "(II)I"⟩, 33) := ⟨⟨by decide +kernel, by decide +kernel⟩, lw_t4 (List.mem_of_getElem? (i := 28) rfl), lw_t4 (List.mem_of_getElem? (i := 211) rfl), lw_t4 (List.mem_of_getElem? (i := 212) rfl)⟩
theorem lw_p51 : lw_okq (⟨"DeadlineTreeModel", "isDue", "(II)Z"⟩, 33) := ⟨⟨by decide +kernel, by decide +kernel⟩, lw_t4 (List.mem_of_getElem? (i := 28) rfl), lw_t4 (List.mem_of_getElem? (i := 215) rfl), lw_t4 (List.mem_of_getElem? (i := 216) rfl)⟩
theorem lw_p52 : lw_okq (⟨"DeadlineTreeModel", "deepOf", "(I)I"⟩, 33) := ⟨⟨by decide +kernel, by decide +kernel⟩, lw_t4 (List.mem_of_getElem? (i := 28) rfl), lw_t4 (List.mem_of_getElem? (i := 219) rfl), lw_t4 (List.mem_of_getElem? (i := 220) rfl)⟩
theorem lw_p53 : lw_okq (⟨"DeadlineTreeModel", "leafOf", "(I)I"⟩, 33) := ⟨⟨by decide +kernel, by decide +kernel⟩, lw_t4 (List.mem_of_getElem? (i := 28) rfl), lw_t4 (List.mem_of_getElem? (i := 223) rfl), lw_t4 (List.mem_of_getElem? (i := 224) rfl)⟩
theorem lw_p54 : lw_okq (⟨"DeadlineTreeModel", "nodeBy", "(I)I"⟩, 33) := ⟨⟨by decide +kernel, by decide +kernel⟩, lw_t4 (List.mem_of_getElem? (i := 28) rfl), lw_t4 (List.mem_of_getElem? (i := 231) rfl), lw_t4 (List.mem_of_getElem? (i := 232) rfl)⟩
theorem lw_p55 : lw_okq (⟨"DeadlineTreeModel", "many", "()I"⟩, 33) := ⟨⟨by decide +kernel, by decide +kernel⟩, lw_t4 (List.mem_of_getElem? (i := 28) rfl), lw_t5 (List.mem_of_getElem? (i := 2) rfl), lw_t5 (List.mem_of_getElem? (i := 3) rfl)⟩
theorem lw_p56 : lw_okq (⟨"DeadlineTreeModel", "notes", "()V"⟩, 33) := ⟨⟨by decide +kernel, by decide +kernel⟩, lw_t4 (List.mem_of_getElem? (i := 28) rfl), lw_t5 (List.mem_of_getElem? (i := 6) rfl), lw_t5 (List.mem_of_getElem? (i := 7) rfl)⟩
theorem lw_p57 : lw_okq (⟨"DeadlineTreeModel", "lays", "([II)V"⟩, 33) := ⟨⟨by decide +kernel, by decide +kernel⟩, lw_t4 (List.mem_of_getElem? (i := 28) rfl), lw_t5 (List.mem_of_getElem? (i := 10) rfl), lw_t5 (List.mem_of_getElem? (i := 11) rfl)⟩
theorem lw_p58 : lw_okq (⟨"DeadlineTreeModel", "goes", "(I)V"⟩, 33) := ⟨⟨by decide +kernel, by decide +kernel⟩, lw_t4 (List.mem_of_getElem? (i := 28) rfl), lw_t5 (List.mem_of_getElem? (i := 18) rfl), lw_t5 (List.mem_of_getElem? (i := 19) rfl)⟩
theorem lw_p59 : lw_okq (⟨"DeadlineTreeModel", "deepest", "()I"⟩, 33) := ⟨⟨by decide +kernel, by decide +kernel⟩, lw_t4 (List.mem_of_getElem? (i := 28) rfl), lw_t5 (List.mem_of_getElem? (i := 30) rfl), lw_t5 (List.mem_of_getElem? (i := 31) rfl)⟩
theorem lw_p60 : lw_okq (⟨"DeadlineTreeModel", "takes", "([II)V"⟩, 33) := ⟨⟨by decide +kernel, by decide +kernel⟩, lw_t4 (List.mem_of_getElem? (i := 28) rfl), lw_t5 (List.mem_of_getElem? (i := 38) rfl), lw_t5 (List.mem_of_getElem? (i := 39) rfl)⟩
theorem lw_p61 : lw_okq (⟨"DeadlineTreeModel", "looksAt", "(III)I"⟩, 33) := ⟨⟨by decide +kernel, by decide +kernel⟩, lw_t4 (List.mem_of_getElem? (i := 28) rfl), lw_t5 (List.mem_of_getElem? (i := 57) rfl), lw_t5 (List.mem_of_getElem? (i := 58) rfl)⟩
theorem lw_p62 : lw_okq (⟨"DeadlineTreeModel", "does", "(II)I"⟩, 33) := ⟨⟨by decide +kernel, by decide +kernel⟩, lw_t4 (List.mem_of_getElem? (i := 28) rfl), lw_t5 (List.mem_of_getElem? (i := 73) rfl), lw_t5 (List.mem_of_getElem? (i := 74) rfl)⟩
theorem lw_p63 : lw_okq (⟨"DeadlineTreeModel", "dayTurn", "(J)V"⟩, 33) := ⟨⟨by decide +kernel, by decide +kernel⟩, lw_t4 (List.mem_of_getElem? (i := 28) rfl), lw_t5 (List.mem_of_getElem? (i := 100) rfl), lw_t5 (List.mem_of_getElem? (i := 101) rfl)⟩
def lw_privs_4 : List (MethodName × Nat) := [(⟨"DeadlineTreeModel", "holderOf", "(I)I"⟩, 33), (⟨"DeadlineTreeModel", "setHolds", "()I"⟩, 33), (⟨"DeadlineTreeModel", "dueOf", "(II)I"⟩, 33), (⟨"DeadlineTreeModel", "isDue", "(II)Z"⟩, 33), (⟨"DeadlineTreeModel", "deepOf", "(I)I"⟩, 33), (⟨"DeadlineTreeModel", "leafOf", "(I)I"⟩, 33), (⟨"DeadlineTreeModel", "nodeBy", "(I)I"⟩, 33), (⟨"DeadlineTreeModel", "many", "()I"⟩, 33), (⟨"DeadlineTreeModel", "notes", "()V"⟩, 33), (⟨"DeadlineTreeModel", "lays", "([II)V"⟩, 33), (⟨"DeadlineTreeModel", "goes", "(I)V"⟩, 33), (⟨"DeadlineTreeModel", "deepest", "()I"⟩, 33), (⟨"DeadlineTreeModel", "takes", "([II)V"⟩, 33), (⟨"DeadlineTreeModel", "looksAt", "(III)I"⟩, 33), (⟨"DeadlineTreeModel", "does", "(II)I"⟩, 33), (⟨"DeadlineTreeModel", "dayTurn", "(J)V"⟩, 33)]
theorem lw_r4 : ∀ q ∈ lw_privs_4, lw_okq q := List.forall_mem_cons.mpr ⟨lw_p48, List.forall_mem_cons.mpr ⟨lw_p49, List.forall_mem_cons.mpr ⟨lw_p50, List.forall_mem_cons.mpr ⟨lw_p51, List.forall_mem_cons.mpr ⟨lw_p52, List.forall_mem_cons.mpr ⟨lw_p53, List.forall_mem_cons.mpr ⟨lw_p54, List.forall_mem_cons.mpr ⟨lw_p55, List.forall_mem_cons.mpr ⟨lw_p56, List.forall_mem_cons.mpr ⟨lw_p57, List.forall_mem_cons.mpr ⟨lw_p58, List.forall_mem_cons.mpr ⟨lw_p59, List.forall_mem_cons.mpr ⟨lw_p60, List.forall_mem_cons.mpr ⟨lw_p61, List.forall_mem_cons.mpr ⟨lw_p62, List.forall_mem_cons.mpr ⟨lw_p63, fun _ h => absurd h List.not_mem_nil⟩⟩⟩⟩⟩⟩⟩⟩⟩⟩⟩⟩⟩⟩⟩⟩
theorem lw_p64 : lw_okq (⟨"DeadlineTreeModel", "holdNone", "()I"⟩, 33) := ⟨⟨by decide +kernel, by decide +kernel⟩, lw_t4 (List.mem_of_getElem? (i := 28) rfl), lw_t5 (List.mem_of_getElem? (i := 108) rfl), lw_t5 (List.mem_of_getElem? (i := 109) rfl)⟩
theorem lw_p65 : lw_okq (⟨"DeadlineTreeModel", "readsJob", "()Z"⟩, 33) := ⟨⟨by decide +kernel, by decide +kernel⟩, lw_t4 (List.mem_of_getElem? (i := 28) rfl), lw_t5 (List.mem_of_getElem? (i := 124) rfl), lw_t5 (List.mem_of_getElem? (i := 125) rfl)⟩
theorem lw_p66 : lw_okq (⟨"DeadlineTreeModel", "here", "()I"⟩, 33) := ⟨⟨by decide +kernel, by decide +kernel⟩, lw_t4 (List.mem_of_getElem? (i := 28) rfl), lw_t5 (List.mem_of_getElem? (i := 128) rfl), lw_t5 (List.mem_of_getElem? (i := 129) rfl)⟩
theorem lw_p67 : lw_okq (⟨"DeadlineTreeModel", "number", "(III)Z"⟩, 33) := ⟨⟨by decide +kernel, by decide +kernel⟩, lw_t4 (List.mem_of_getElem? (i := 28) rfl), lw_t5 (List.mem_of_getElem? (i := 132) rfl), lw_t5 (List.mem_of_getElem? (i := 133) rfl)⟩
theorem lw_p68 : lw_okq (⟨"DeadlineTreeModel", "isFigure", "()Z"⟩, 33) := ⟨⟨by decide +kernel, by decide +kernel⟩, lw_t4 (List.mem_of_getElem? (i := 28) rfl), lw_t5 (List.mem_of_getElem? (i := 136) rfl), lw_t5 (List.mem_of_getElem? (i := 137) rfl)⟩
def lw_privs_5 : List (MethodName × Nat) := [(⟨"DeadlineTreeModel", "holdNone", "()I"⟩, 33), (⟨"DeadlineTreeModel", "readsJob", "()Z"⟩, 33), (⟨"DeadlineTreeModel", "here", "()I"⟩, 33), (⟨"DeadlineTreeModel", "number", "(III)Z"⟩, 33), (⟨"DeadlineTreeModel", "isFigure", "()Z"⟩, 33)]
theorem lw_r5 : ∀ q ∈ lw_privs_5, lw_okq q := List.forall_mem_cons.mpr ⟨lw_p64, List.forall_mem_cons.mpr ⟨lw_p65, List.forall_mem_cons.mpr ⟨lw_p66, List.forall_mem_cons.mpr ⟨lw_p67, List.forall_mem_cons.mpr ⟨lw_p68, fun _ h => absurd h List.not_mem_nil⟩⟩⟩⟩⟩
def lw_privs : List (MethodName × Nat) := lw_privs_1 ++ (lw_privs_2 ++ (lw_privs_3 ++ (lw_privs_4 ++ (lw_privs_5))))
def lw_tbl : List Cond := k2_sels lw_privs ++ tables_1
theorem lw_privs_ok : ∀ q ∈ lw_privs, lw_okq q := by
  show ∀ q ∈ lw_privs_1 ++ (lw_privs_2 ++ (lw_privs_3 ++ (lw_privs_4 ++ (lw_privs_5)))), lw_okq q
  exact List.forall_mem_append.mpr ⟨lw_r1, List.forall_mem_append.mpr ⟨lw_r2, List.forall_mem_append.mpr ⟨lw_r3, List.forall_mem_append.mpr ⟨lw_r4, lw_r5⟩⟩⟩⟩
-- ===== ONE list of words for every method: the tables' words that hold all through a run =====
def lw_all : List Cond := lw_tbl.filter goodWord
/-- a word of the tables by its place: claim/WORDS.tsv -/
theorem lw_w {w : Cond} (i : Nat) (h : lw_tbl[i]? = some w) (g : goodWord w = true) : w ∈ lw_all := List.mem_filter.mpr ⟨List.mem_of_getElem? h, g⟩
theorem lw_all_tbl {w : Cond} (h : w ∈ lw_all) : w ∈ lw_tbl := (List.mem_filter.mp h).1
theorem lw_self : GoodIn lw_all lw_all := fun w h => ⟨h, good_of_word (List.mem_filter.mp h).2⟩
/-- a class's field words, by their places -/
theorem lw_in (ws : List Cond) (ps : List Nat) (hp : ws = ps.filterMap (fun i => lw_tbl[i]?)) (hg : ws.all goodWord = true) : ∀ w ∈ ws, w ∈ lw_all := by
  intro w h
  have h1 := List.all_eq_true.mp hg w h
  rw [hp] at h
  obtain ⟨i, -, hi⟩ := List.mem_filterMap.mp h
  exact lw_w i hi h1
/-- the words of a contract for the method y with code b, L locals, answer r -/
abbrev ws_ (y : MethodName) (b : ByteArray) (L : Nat) (r : Option FieldType) : List Cond := Cond.code y b L r :: lw_all
theorem lw_meth {y : MethodName} {b : ByteArray} {L : Nat} {r : Option FieldType} (h : Cond.code y b L r ∈ lw_all) : GoodIn lw_all (ws_ y b L r) := by
  intro w hw
  rcases List.mem_cons.mp hw with e | e
  · rw [e]
    exact lw_self _ h
  · exact lw_self _ e
theorem lw_app {a c : List Cond} (ha : ∀ w ∈ a, w ∈ lw_all) (hc : GoodIn lw_all c) : GoodIn lw_all (a ++ c) := by
  intro w hw
  rcases List.mem_append.mp hw with e | e
  · exact lw_self w (ha w e)
  · exact hc w e
/-- what a call through an object asks: cwV n hts (lw_V ..) -/
theorem lw_V {own : String} {idx : Nat} {C : String} {y : MethodName} {b : ByteArray} {L : Nat} {r : Option FieldType} (h1 : Cond.methodLink own idx y ∈ lw_all) (h2 : Cond.instanceMethod y ∈ lw_all) (h3 : Cond.selects C y y ∈ lw_all) (h4 : Cond.initialized C ∈ lw_all) (h5 : Cond.code y b L r ∈ lw_all) : GoodIn lw_all (wsV own idx C y (ws_ y b L r)) := by
  refine lw_app ?_ (lw_meth h5)
  intro w hw
  simp only [List.mem_cons, List.not_mem_nil, or_false] at hw
  rcases hw with e | e | e | e
  · rw [e]; exact h1
  · rw [e]; exact h2
  · rw [e]; exact h3
  · rw [e]; exact h4
/-- what a static call asks: va_cwS n hts (lw_S ..) -/
theorem lw_S {own : String} {idx : Nat} {y : MethodName} {b : ByteArray} {L : Nat} {r : Option FieldType} (h1 : Cond.methodLink own idx y ∈ lw_all) (h2 : Cond.static y ∈ lw_all) (h3 : Cond.initialized y.cls ∈ lw_all) (h4 : Cond.code y b L r ∈ lw_all) : GoodIn lw_all (va_wsS own idx y (ws_ y b L r)) := by
  refine lw_app ?_ (lw_meth h4)
  intro w hw
  simp only [List.mem_cons, List.not_mem_nil, or_false] at hw
  rcases hw with e | e | e
  · rw [e]; exact h1
  · rw [e]; exact h2
  · rw [e]; exact h3
/-- the words of a contract for a method WITH HANDLERS (hh: its table) -/
abbrev wsW_ (y : MethodName) (b : ByteArray) (L : Nat) (r : Option FieldType) (hh : List (Nat × Nat × Nat × Nat)) : List Cond := Cond.codeWith y b L r hh :: lw_all
theorem lw_methW {y : MethodName} {b : ByteArray} {L : Nat} {r : Option FieldType} {hh : List (Nat × Nat × Nat × Nat)} (h : Cond.codeWith y b L r hh ∈ lw_all) : GoodIn lw_all (wsW_ y b L r hh) := by
  intro w hw
  rcases List.mem_cons.mp hw with e | e
  · rw [e]
    exact lw_self _ h
  · exact lw_self _ e
/-- any list of words by their places (lw_in), good -/
theorem lw_good {ws : List Cond} (h : ∀ w ∈ ws, w ∈ lw_all) : GoodIn lw_all ws := fun w hw => lw_self w (h w hw)
/-- what a call of a method with handlers asks: vx_cwVW n hts (lw_VW ..), vx_cwSW n hts (lw_SW ..) -/
theorem lw_VW {own : String} {idx : Nat} {C : String} {y : MethodName} {b : ByteArray} {L : Nat} {r : Option FieldType} {hh : List (Nat × Nat × Nat × Nat)} (h1 : Cond.methodLink own idx y ∈ lw_all) (h2 : Cond.instanceMethod y ∈ lw_all) (h3 : Cond.selects C y y ∈ lw_all) (h4 : Cond.initialized C ∈ lw_all) (h5 : Cond.codeWith y b L r hh ∈ lw_all) : GoodIn lw_all (wsV own idx C y (wsW_ y b L r hh)) := by
  refine lw_app ?_ (lw_methW h5)
  intro w hw
  simp only [List.mem_cons, List.not_mem_nil, or_false] at hw
  rcases hw with e | e | e | e
  · rw [e]; exact h1
  · rw [e]; exact h2
  · rw [e]; exact h3
  · rw [e]; exact h4
theorem lw_SW {own : String} {idx : Nat} {y : MethodName} {b : ByteArray} {L : Nat} {r : Option FieldType} {hh : List (Nat × Nat × Nat × Nat)} (h1 : Cond.methodLink own idx y ∈ lw_all) (h2 : Cond.static y ∈ lw_all) (h3 : Cond.initialized y.cls ∈ lw_all) (h4 : Cond.codeWith y b L r hh ∈ lw_all) : GoodIn lw_all (va_wsS own idx y (wsW_ y b L r hh)) := by
  refine lw_app ?_ (lw_methW h4)
  intro w hw
  simp only [List.mem_cons, List.not_mem_nil, or_false] at hw
  rcases hw with e | e | e
  · rw [e]; exact h1
  · rw [e]; exact h2
  · rw [e]; exact h3
/-- a word by its place in its run of the tables -/
theorem lw_at {r : List Cond} (hr : ∀ w ∈ r, w ∈ lw_tbl) {w : Cond} (i : Nat) (h : r[i]? = some w) : w ∈ lw_tbl := hr w (List.mem_of_getElem? h)
theorem lw_g {w : Cond} (h : w ∈ lw_tbl) (g : goodWord w = true) : w ∈ lw_all := List.mem_filter.mpr ⟨h, g⟩
theorem lw_ms : ∀ w ∈ k2_sels lw_privs, w ∈ lw_tbl := fun w h => show w ∈ k2_sels lw_privs ++ tables_1 from List.mem_append_left _ h
theorem lw_m1 : ∀ w ∈ tables_1_1, w ∈ lw_tbl := fun w h => show w ∈ k2_sels lw_privs ++ tables_1 from List.mem_append_right (k2_sels lw_privs) (show w ∈ tables_1 from List.mem_append_left _ h)
theorem lw_m2 : ∀ w ∈ tables_1_2, w ∈ lw_tbl := fun w h => show w ∈ k2_sels lw_privs ++ tables_1 from List.mem_append_right (k2_sels lw_privs) (show w ∈ tables_1 from List.mem_append_right _ (List.mem_append_left _ h))
theorem lw_m3 : ∀ w ∈ tables_1_3, w ∈ lw_tbl := fun w h => show w ∈ k2_sels lw_privs ++ tables_1 from List.mem_append_right (k2_sels lw_privs) (show w ∈ tables_1 from List.mem_append_right _ (List.mem_append_right _ (List.mem_append_left _ h)))
theorem lw_m4 : ∀ w ∈ tables_1_4, w ∈ lw_tbl := fun w h => show w ∈ k2_sels lw_privs ++ tables_1 from List.mem_append_right (k2_sels lw_privs) (show w ∈ tables_1 from List.mem_append_right _ (List.mem_append_right _ (List.mem_append_right _ (List.mem_append_left _ h))))
theorem lw_m5 : ∀ w ∈ tables_1_5, w ∈ lw_tbl := fun w h => show w ∈ k2_sels lw_privs ++ tables_1 from List.mem_append_right (k2_sels lw_privs) (show w ∈ tables_1 from List.mem_append_right _ (List.mem_append_right _ (List.mem_append_right _ (List.mem_append_right _ h))))
theorem qs0 : (Cond.selects "DeadlineTree" ⟨"DeadlineTree", "readAll", "()I"⟩ ⟨"DeadlineTree", "readAll", "()I"⟩) ∈ lw_all := lw_g (lw_at lw_ms 0 rfl) rfl
theorem qs1 : (Cond.selects "DeadlineTree" ⟨"DeadlineTree", "item", "()V"⟩ ⟨"DeadlineTree", "item", "()V"⟩) ∈ lw_all := lw_g (lw_at lw_ms 1 rfl) rfl
theorem qs2 : (Cond.selects "DeadlineTree" ⟨"DeadlineTree", "letterAt", "(I)I"⟩ ⟨"DeadlineTree", "letterAt", "(I)I"⟩) ∈ lw_all := lw_g (lw_at lw_ms 2 rfl) rfl
theorem qs3 : (Cond.selects "DeadlineTree" ⟨"DeadlineTree", "expect", "(Z)V"⟩ ⟨"DeadlineTree", "expect", "(Z)V"⟩) ∈ lw_all := lw_g (lw_at lw_ms 3 rfl) rfl
theorem qs4 : (Cond.selects "java/lang/NullPointerException" ⟨"java/lang/NullPointerException", "getExtendedNPEMessage", "()Ljava/lang/String;"⟩ ⟨"java/lang/NullPointerException", "getExtendedNPEMessage", "()Ljava/lang/String;"⟩) ∈ lw_all := lw_g (lw_at lw_ms 4 rfl) rfl
theorem qs5 : (Cond.selects "java/lang/Throwable" ⟨"java/lang/Throwable", "fillInStackTrace", "(I)Ljava/lang/Throwable;"⟩ ⟨"java/lang/Throwable", "fillInStackTrace", "(I)Ljava/lang/Throwable;"⟩) ∈ lw_all := lw_g (lw_at lw_ms 5 rfl) rfl
theorem qs6 : (Cond.selects "DeadlineTree" ⟨"DeadlineTree", "number", "(III)I"⟩ ⟨"DeadlineTree", "number", "(III)I"⟩) ∈ lw_all := lw_g (lw_at lw_ms 6 rfl) rfl
theorem qs7 : (Cond.selects "DeadlineTree" ⟨"DeadlineTree", "isFigure", "()Z"⟩ ⟨"DeadlineTree", "isFigure", "()Z"⟩) ∈ lw_all := lw_g (lw_at lw_ms 7 rfl) rfl
theorem qs8 : (Cond.selects "DeadlineTree$State" ⟨"DeadlineTree$State", "leaf", "(I)LDeadlineTree$Node;"⟩ ⟨"DeadlineTree$State", "leaf", "(I)LDeadlineTree$Node;"⟩) ∈ lw_all := lw_g (lw_at lw_ms 8 rfl) rfl
theorem qs9 : (Cond.selects "DeadlineTree$State" ⟨"DeadlineTree$State", "part", "(LDeadlineTree$Node;I)LDeadlineTree$Node;"⟩ ⟨"DeadlineTree$State", "part", "(LDeadlineTree$Node;I)LDeadlineTree$Node;"⟩) ∈ lw_all := lw_g (lw_at lw_ms 9 rfl) rfl
theorem qs10 : (Cond.selects "DeadlineTree$State" ⟨"DeadlineTree$State", "push", "(LDeadlineTree$Node;I)V"⟩ ⟨"DeadlineTree$State", "push", "(LDeadlineTree$Node;I)V"⟩) ∈ lw_all := lw_g (lw_at lw_ms 10 rfl) rfl
theorem qs11 : (Cond.selects "DeadlineTree$State" ⟨"DeadlineTree$State", "level", "(II)I"⟩ ⟨"DeadlineTree$State", "level", "(II)I"⟩) ∈ lw_all := lw_g (lw_at lw_ms 11 rfl) rfl
theorem qs12 : (Cond.selects "DeadlineTree$State" ⟨"DeadlineTree$State", "levelled", "(LDeadlineTree$Node;)LDeadlineTree$Node;"⟩ ⟨"DeadlineTree$State", "levelled", "(LDeadlineTree$Node;)LDeadlineTree$Node;"⟩) ∈ lw_all := lw_g (lw_at lw_ms 12 rfl) rfl
theorem qs13 : (Cond.selects "DeadlineTree$State" ⟨"DeadlineTree$State", "gather", "(LDeadlineTree$Node;)V"⟩ ⟨"DeadlineTree$State", "gather", "(LDeadlineTree$Node;)V"⟩) ∈ lw_all := lw_g (lw_at lw_ms 13 rfl) rfl
theorem qs14 : (Cond.selects "DeadlineTree$State" ⟨"DeadlineTree$State", "release", "(LDeadlineTree$Node;)V"⟩ ⟨"DeadlineTree$State", "release", "(LDeadlineTree$Node;)V"⟩) ∈ lw_all := lw_g (lw_at lw_ms 14 rfl) rfl
theorem qs15 : (Cond.selects "DeadlineTree$State" ⟨"DeadlineTree$State", "build", "(II)LDeadlineTree$Node;"⟩ ⟨"DeadlineTree$State", "build", "(II)LDeadlineTree$Node;"⟩) ∈ lw_all := lw_g (lw_at lw_ms 15 rfl) rfl
theorem qs16 : (Cond.selects "DeadlineTree$State" ⟨"DeadlineTree$State", "replace", "(LDeadlineTree$Node;LDeadlineTree$Node;LDeadlineTree$Node;)V"⟩ ⟨"DeadlineTree$State", "replace", "(LDeadlineTree$Node;LDeadlineTree$Node;LDeadlineTree$Node;)V"⟩) ∈ lw_all := lw_g (lw_at lw_ms 16 rfl) rfl
theorem qs17 : (Cond.selects "DeadlineTree$State" ⟨"DeadlineTree$State", "own", "(LDeadlineTree$Node;)LDeadlineTree$Node;"⟩ ⟨"DeadlineTree$State", "own", "(LDeadlineTree$Node;)LDeadlineTree$Node;"⟩) ∈ lw_all := lw_g (lw_at lw_ms 17 rfl) rfl
theorem qs18 : (Cond.selects "DeadlineTree" ⟨"DeadlineTree", "isJob", "(I)Z"⟩ ⟨"DeadlineTree", "isJob", "(I)Z"⟩) ∈ lw_all := lw_g (lw_at lw_ms 18 rfl) rfl
theorem qs19 : (Cond.selects "DeadlineTree" ⟨"DeadlineTree", "noteUndo", "()V"⟩ ⟨"DeadlineTree", "noteUndo", "()V"⟩) ∈ lw_all := lw_g (lw_at lw_ms 19 rfl) rfl
theorem qs20 : (Cond.selects "DeadlineTree$State" ⟨"DeadlineTree$State", "vacate", "(I)V"⟩ ⟨"DeadlineTree$State", "vacate", "(I)V"⟩) ∈ lw_all := lw_g (lw_at lw_ms 20 rfl) rfl
theorem qs21 : (Cond.selects "DeadlineTree$State" ⟨"DeadlineTree$State", "holder", "(I)LDeadlineTree$Node;"⟩ ⟨"DeadlineTree$State", "holder", "(I)LDeadlineTree$Node;"⟩) ∈ lw_all := lw_g (lw_at lw_ms 21 rfl) rfl
theorem qs22 : (Cond.selects "DeadlineTree$State" ⟨"DeadlineTree$State", "pull", "(LDeadlineTree$Node;)V"⟩ ⟨"DeadlineTree$State", "pull", "(LDeadlineTree$Node;)V"⟩) ∈ lw_all := lw_g (lw_at lw_ms 22 rfl) rfl
theorem qs23 : (Cond.selects "DeadlineTree$State" ⟨"DeadlineTree$State", "levelAbove", "(LDeadlineTree$Node;)I"⟩ ⟨"DeadlineTree$State", "levelAbove", "(LDeadlineTree$Node;)I"⟩) ∈ lw_all := lw_g (lw_at lw_ms 23 rfl) rfl
theorem qs24 : (Cond.selects "DeadlineTree" ⟨"DeadlineTree", "find", "(III)V"⟩ ⟨"DeadlineTree", "find", "(III)V"⟩) ∈ lw_all := lw_g (lw_at lw_ms 24 rfl) rfl
theorem qs25 : (Cond.selects "DeadlineTree" ⟨"DeadlineTree", "look", "(LDeadlineTree$Node;III)V"⟩ ⟨"DeadlineTree", "look", "(LDeadlineTree$Node;III)V"⟩) ∈ lw_all := lw_g (lw_at lw_ms 25 rfl) rfl
theorem qs26 : (Cond.selects "DeadlineTree" ⟨"DeadlineTree", "soonestOf", "(LDeadlineTree$Node;II)I"⟩ ⟨"DeadlineTree", "soonestOf", "(LDeadlineTree$Node;II)I"⟩) ∈ lw_all := lw_g (lw_at lw_ms 26 rfl) rfl
theorem qs27 : (Cond.selects "DeadlineTree" ⟨"DeadlineTree", "leftOf", "(II)I"⟩ ⟨"DeadlineTree", "leftOf", "(II)I"⟩) ∈ lw_all := lw_g (lw_at lw_ms 27 rfl) rfl
theorem qs28 : (Cond.selects "DeadlineTree" ⟨"DeadlineTree", "lateOf", "(II)I"⟩ ⟨"DeadlineTree", "lateOf", "(II)I"⟩) ∈ lw_all := lw_g (lw_at lw_ms 28 rfl) rfl
theorem qs29 : (Cond.selects "DeadlineTree" ⟨"DeadlineTree", "next", "(III)I"⟩ ⟨"DeadlineTree", "next", "(III)I"⟩) ∈ lw_all := lw_g (lw_at lw_ms 29 rfl) rfl
theorem qs30 : (Cond.selects "DeadlineTree" ⟨"DeadlineTree", "leastStart", "(I)I"⟩ ⟨"DeadlineTree", "leastStart", "(I)I"⟩) ∈ lw_all := lw_g (lw_at lw_ms 30 rfl) rfl
theorem qs31 : (Cond.selects "DeadlineTree" ⟨"DeadlineTree", "goDrawn", "(LDeadlineTree$State;I)I"⟩ ⟨"DeadlineTree", "goDrawn", "(LDeadlineTree$State;I)I"⟩) ∈ lw_all := lw_g (lw_at lw_ms 31 rfl) rfl
theorem qs32 : (Cond.selects "DeadlineTree" ⟨"DeadlineTree", "cutFrom", "(LDeadlineTree$State;I)I"⟩ ⟨"DeadlineTree", "cutFrom", "(LDeadlineTree$State;I)I"⟩) ∈ lw_all := lw_g (lw_at lw_ms 32 rfl) rfl
theorem qs33 : (Cond.selects "DeadlineTree" ⟨"DeadlineTree", "vacant", "(LDeadlineTree$Node;)I"⟩ ⟨"DeadlineTree", "vacant", "(LDeadlineTree$Node;)I"⟩) ∈ lw_all := lw_g (lw_at lw_ms 33 rfl) rfl
theorem qs34 : (Cond.selects "DeadlineTreeModel" ⟨"DeadlineTreeModel", "empties", "()V"⟩ ⟨"DeadlineTreeModel", "empties", "()V"⟩) ∈ lw_all := lw_g (lw_at lw_ms 34 rfl) rfl
theorem qs35 : (Cond.selects "DeadlineTreeModel" ⟨"DeadlineTreeModel", "comes", "(IIII)I"⟩ ⟨"DeadlineTreeModel", "comes", "(IIII)I"⟩) ∈ lw_all := lw_g (lw_at lw_ms 35 rfl) rfl
theorem qs36 : (Cond.selects "DeadlineTreeModel" ⟨"DeadlineTreeModel", "newLeaf", "(I)I"⟩ ⟨"DeadlineTreeModel", "newLeaf", "(I)I"⟩) ∈ lw_all := lw_g (lw_at lw_ms 36 rfl) rfl
theorem qs37 : (Cond.selects "DeadlineTreeModel" ⟨"DeadlineTreeModel", "becomesLeaf", "(II)V"⟩ ⟨"DeadlineTreeModel", "becomesLeaf", "(II)V"⟩) ∈ lw_all := lw_g (lw_at lw_ms 37 rfl) rfl
theorem qs38 : (Cond.selects "DeadlineTreeModel" ⟨"DeadlineTreeModel", "isLeaf", "(I)Z"⟩ ⟨"DeadlineTreeModel", "isLeaf", "(I)Z"⟩) ∈ lw_all := lw_g (lw_at lw_ms 38 rfl) rfl
theorem qs39 : (Cond.selects "DeadlineTreeModel" ⟨"DeadlineTreeModel", "settles", "(I)V"⟩ ⟨"DeadlineTreeModel", "settles", "(I)V"⟩) ∈ lw_all := lw_g (lw_at lw_ms 39 rfl) rfl
theorem qs40 : (Cond.selects "DeadlineTreeModel" ⟨"DeadlineTreeModel", "aboveOf", "(I)I"⟩ ⟨"DeadlineTreeModel", "aboveOf", "(I)I"⟩) ∈ lw_all := lw_g (lw_at lw_ms 40 rfl) rfl
theorem qs41 : (Cond.selects "DeadlineTreeModel" ⟨"DeadlineTreeModel", "leans", "(I)Z"⟩ ⟨"DeadlineTreeModel", "leans", "(I)Z"⟩) ∈ lw_all := lw_g (lw_at lw_ms 41 rfl) rfl
theorem qs42 : (Cond.selects "DeadlineTreeModel" ⟨"DeadlineTreeModel", "leaves", "(I)I"⟩ ⟨"DeadlineTreeModel", "leaves", "(I)I"⟩) ∈ lw_all := lw_g (lw_at lw_ms 42 rfl) rfl
theorem qs43 : (Cond.selects "DeadlineTreeModel" ⟨"DeadlineTreeModel", "levels", "(I)V"⟩ ⟨"DeadlineTreeModel", "levels", "(I)V"⟩) ∈ lw_all := lw_g (lw_at lw_ms 43 rfl) rfl
theorem qs44 : (Cond.selects "DeadlineTreeModel" ⟨"DeadlineTreeModel", "frees", "(I)V"⟩ ⟨"DeadlineTreeModel", "frees", "(I)V"⟩) ∈ lw_all := lw_g (lw_at lw_ms 44 rfl) rfl
theorem qs45 : (Cond.selects "DeadlineTreeModel" ⟨"DeadlineTreeModel", "isJob", "(I)Z"⟩ ⟨"DeadlineTreeModel", "isJob", "(I)Z"⟩) ∈ lw_all := lw_g (lw_at lw_ms 45 rfl) rfl
theorem qs46 : (Cond.selects "DeadlineTreeModel" ⟨"DeadlineTreeModel", "rank", "(I)I"⟩ ⟨"DeadlineTreeModel", "rank", "(I)I"⟩) ∈ lw_all := lw_g (lw_at lw_ms 46 rfl) rfl
theorem qs47 : (Cond.selects "DeadlineTreeModel" ⟨"DeadlineTreeModel", "rankBy", "(II)I"⟩ ⟨"DeadlineTreeModel", "rankBy", "(II)I"⟩) ∈ lw_all := lw_g (lw_at lw_ms 47 rfl) rfl
theorem qs48 : (Cond.selects "DeadlineTreeModel" ⟨"DeadlineTreeModel", "holderOf", "(I)I"⟩ ⟨"DeadlineTreeModel", "holderOf", "(I)I"⟩) ∈ lw_all := lw_g (lw_at lw_ms 48 rfl) rfl
theorem qs49 : (Cond.selects "DeadlineTreeModel" ⟨"DeadlineTreeModel", "setHolds", "()I"⟩ ⟨"DeadlineTreeModel", "setHolds", "()I"⟩) ∈ lw_all := lw_g (lw_at lw_ms 49 rfl) rfl
theorem qs50 : (Cond.selects "DeadlineTreeModel" ⟨"DeadlineTreeModel", "dueOf", "(II)I"⟩ ⟨"DeadlineTreeModel", "dueOf", "(II)I"⟩) ∈ lw_all := lw_g (lw_at lw_ms 50 rfl) rfl
theorem qs51 : (Cond.selects "DeadlineTreeModel" ⟨"DeadlineTreeModel", "isDue", "(II)Z"⟩ ⟨"DeadlineTreeModel", "isDue", "(II)Z"⟩) ∈ lw_all := lw_g (lw_at lw_ms 51 rfl) rfl
theorem qs52 : (Cond.selects "DeadlineTreeModel" ⟨"DeadlineTreeModel", "deepOf", "(I)I"⟩ ⟨"DeadlineTreeModel", "deepOf", "(I)I"⟩) ∈ lw_all := lw_g (lw_at lw_ms 52 rfl) rfl
theorem qs53 : (Cond.selects "DeadlineTreeModel" ⟨"DeadlineTreeModel", "leafOf", "(I)I"⟩ ⟨"DeadlineTreeModel", "leafOf", "(I)I"⟩) ∈ lw_all := lw_g (lw_at lw_ms 53 rfl) rfl
theorem qs54 : (Cond.selects "DeadlineTreeModel" ⟨"DeadlineTreeModel", "nodeBy", "(I)I"⟩ ⟨"DeadlineTreeModel", "nodeBy", "(I)I"⟩) ∈ lw_all := lw_g (lw_at lw_ms 54 rfl) rfl
theorem qs55 : (Cond.selects "DeadlineTreeModel" ⟨"DeadlineTreeModel", "many", "()I"⟩ ⟨"DeadlineTreeModel", "many", "()I"⟩) ∈ lw_all := lw_g (lw_at lw_ms 55 rfl) rfl
theorem qs56 : (Cond.selects "DeadlineTreeModel" ⟨"DeadlineTreeModel", "notes", "()V"⟩ ⟨"DeadlineTreeModel", "notes", "()V"⟩) ∈ lw_all := lw_g (lw_at lw_ms 56 rfl) rfl
theorem qs57 : (Cond.selects "DeadlineTreeModel" ⟨"DeadlineTreeModel", "lays", "([II)V"⟩ ⟨"DeadlineTreeModel", "lays", "([II)V"⟩) ∈ lw_all := lw_g (lw_at lw_ms 57 rfl) rfl
theorem qs58 : (Cond.selects "DeadlineTreeModel" ⟨"DeadlineTreeModel", "goes", "(I)V"⟩ ⟨"DeadlineTreeModel", "goes", "(I)V"⟩) ∈ lw_all := lw_g (lw_at lw_ms 58 rfl) rfl
theorem qs59 : (Cond.selects "DeadlineTreeModel" ⟨"DeadlineTreeModel", "deepest", "()I"⟩ ⟨"DeadlineTreeModel", "deepest", "()I"⟩) ∈ lw_all := lw_g (lw_at lw_ms 59 rfl) rfl
theorem qs60 : (Cond.selects "DeadlineTreeModel" ⟨"DeadlineTreeModel", "takes", "([II)V"⟩ ⟨"DeadlineTreeModel", "takes", "([II)V"⟩) ∈ lw_all := lw_g (lw_at lw_ms 60 rfl) rfl
theorem qs61 : (Cond.selects "DeadlineTreeModel" ⟨"DeadlineTreeModel", "looksAt", "(III)I"⟩ ⟨"DeadlineTreeModel", "looksAt", "(III)I"⟩) ∈ lw_all := lw_g (lw_at lw_ms 61 rfl) rfl
theorem qs62 : (Cond.selects "DeadlineTreeModel" ⟨"DeadlineTreeModel", "does", "(II)I"⟩ ⟨"DeadlineTreeModel", "does", "(II)I"⟩) ∈ lw_all := lw_g (lw_at lw_ms 62 rfl) rfl
theorem qs63 : (Cond.selects "DeadlineTreeModel" ⟨"DeadlineTreeModel", "dayTurn", "(J)V"⟩ ⟨"DeadlineTreeModel", "dayTurn", "(J)V"⟩) ∈ lw_all := lw_g (lw_at lw_ms 63 rfl) rfl
theorem qs64 : (Cond.selects "DeadlineTreeModel" ⟨"DeadlineTreeModel", "holdNone", "()I"⟩ ⟨"DeadlineTreeModel", "holdNone", "()I"⟩) ∈ lw_all := lw_g (lw_at lw_ms 64 rfl) rfl
theorem qs65 : (Cond.selects "DeadlineTreeModel" ⟨"DeadlineTreeModel", "readsJob", "()Z"⟩ ⟨"DeadlineTreeModel", "readsJob", "()Z"⟩) ∈ lw_all := lw_g (lw_at lw_ms 65 rfl) rfl
theorem qs66 : (Cond.selects "DeadlineTreeModel" ⟨"DeadlineTreeModel", "here", "()I"⟩ ⟨"DeadlineTreeModel", "here", "()I"⟩) ∈ lw_all := lw_g (lw_at lw_ms 66 rfl) rfl
theorem qs67 : (Cond.selects "DeadlineTreeModel" ⟨"DeadlineTreeModel", "number", "(III)Z"⟩ ⟨"DeadlineTreeModel", "number", "(III)Z"⟩) ∈ lw_all := lw_g (lw_at lw_ms 67 rfl) rfl
theorem qs68 : (Cond.selects "DeadlineTreeModel" ⟨"DeadlineTreeModel", "isFigure", "()Z"⟩ ⟨"DeadlineTreeModel", "isFigure", "()Z"⟩) ∈ lw_all := lw_g (lw_at lw_ms 68 rfl) rfl
