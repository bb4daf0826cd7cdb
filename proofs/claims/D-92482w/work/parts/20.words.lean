-- ===== PART A: goes FIRST, ahead of the names: the tables' words, and 'selects' of the private methods out of them =====
/-- a private method of a class that the tables say can be made, by its rows of tables_1 -/
def lw_okq (q : MethodName × Nat) : Prop := (q.1.cls ≠ "java/lang/invoke/MethodHandle" ∧ q.1.cls ≠ "java/lang/invoke/VarHandle") ∧ Cond.instantiable q.1.cls q.2 ∈ tables_1 ∧ Cond.privateMethod q.1 ∈ tables_1 ∧ Cond.instanceMethod q.1 ∈ tables_1
set_option maxRecDepth 100000
theorem lw_t1 {w : Cond} (h : w ∈ tables_1_1) : w ∈ tables_1 := List.mem_append_left _ h
theorem lw_t2 {w : Cond} (h : w ∈ tables_1_2) : w ∈ tables_1 := List.mem_append_right _ (List.mem_append_left _ h)
theorem lw_t3 {w : Cond} (h : w ∈ tables_1_3) : w ∈ tables_1 := List.mem_append_right _ (List.mem_append_right _ (List.mem_append_left _ h))
theorem lw_t4 {w : Cond} (h : w ∈ tables_1_4) : w ∈ tables_1 := List.mem_append_right _ (List.mem_append_right _ (List.mem_append_right _ (List.mem_append_left _ h)))
theorem lw_t5 {w : Cond} (h : w ∈ tables_1_5) : w ∈ tables_1 := List.mem_append_right _ (List.mem_append_right _ (List.mem_append_right _ (List.mem_append_right _ (List.mem_append_left _ h))))
theorem lw_t6 {w : Cond} (h : w ∈ tables_1_6) : w ∈ tables_1 := List.mem_append_right _ (List.mem_append_right _ (List.mem_append_right _ (List.mem_append_right _ (List.mem_append_right _ h))))
theorem lw_p0 : lw_okq (⟨"PalaceOfRooms", "awayOf", "(II)I"⟩, 22) := ⟨⟨by decide +kernel, by decide +kernel⟩, lw_t1 (List.mem_of_getElem? (i := 30) rfl), lw_t2 (List.mem_of_getElem? (i := 51) rfl), lw_t2 (List.mem_of_getElem? (i := 52) rfl)⟩
theorem lw_p1 : lw_okq (⟨"PalaceOfRooms", "likeness", "(II)I"⟩, 22) := ⟨⟨by decide +kernel, by decide +kernel⟩, lw_t1 (List.mem_of_getElem? (i := 30) rfl), lw_t2 (List.mem_of_getElem? (i := 68) rfl), lw_t2 (List.mem_of_getElem? (i := 69) rfl)⟩
theorem lw_p2 : lw_okq (⟨"PalaceOfRooms", "whereIs", "(I)I"⟩, 22) := ⟨⟨by decide +kernel, by decide +kernel⟩, lw_t1 (List.mem_of_getElem? (i := 30) rfl), lw_t2 (List.mem_of_getElem? (i := 98) rfl), lw_t2 (List.mem_of_getElem? (i := 99) rfl)⟩
theorem lw_p3 : lw_okq (⟨"PalaceOfRooms$House", "likes", "(I)I"⟩, 2) := ⟨⟨by decide +kernel, by decide +kernel⟩, lw_t1 (List.mem_of_getElem? (i := 40) rfl), lw_t2 (List.mem_of_getElem? (i := 150) rfl), lw_t2 (List.mem_of_getElem? (i := 151) rfl)⟩
theorem lw_p4 : lw_okq (⟨"PalaceOfRooms", "isLike", "(II)Z"⟩, 22) := ⟨⟨by decide +kernel, by decide +kernel⟩, lw_t1 (List.mem_of_getElem? (i := 30) rfl), lw_t2 (List.mem_of_getElem? (i := 154) rfl), lw_t2 (List.mem_of_getElem? (i := 155) rfl)⟩
theorem lw_p5 : lw_okq (⟨"PalaceOfRooms$Reader", "token", "()V"⟩, 6) := ⟨⟨by decide +kernel, by decide +kernel⟩, lw_t1 (List.mem_of_getElem? (i := 107) rfl), lw_t2 (List.mem_of_getElem? (i := 200) rfl), lw_t2 (List.mem_of_getElem? (i := 201) rfl)⟩
theorem lw_p6 : lw_okq (⟨"PalaceOfRooms$Reader", "kindAt", "(I)I"⟩, 6) := ⟨⟨by decide +kernel, by decide +kernel⟩, lw_t1 (List.mem_of_getElem? (i := 107) rfl), lw_t2 (List.mem_of_getElem? (i := 204) rfl), lw_t2 (List.mem_of_getElem? (i := 205) rfl)⟩
theorem lw_p7 : lw_okq (⟨"PalaceOfRooms$Reader", "line", "()LPalaceOfRooms$Line;"⟩, 6) := ⟨⟨by decide +kernel, by decide +kernel⟩, lw_t1 (List.mem_of_getElem? (i := 107) rfl), lw_t2 (List.mem_of_getElem? (i := 213) rfl), lw_t2 (List.mem_of_getElem? (i := 214) rfl)⟩
theorem lw_p8 : lw_okq (⟨"PalaceOfRooms$Reader", "skips", "(Ljava/lang/String;)Z"⟩, 6) := ⟨⟨by decide +kernel, by decide +kernel⟩, lw_t1 (List.mem_of_getElem? (i := 107) rfl), lw_t2 (List.mem_of_getElem? (i := 218) rfl), lw_t2 (List.mem_of_getElem? (i := 219) rfl)⟩
theorem lw_p9 : lw_okq (⟨"PalaceOfRooms$Reader", "isWord", "(Ljava/lang/String;)Z"⟩, 6) := ⟨⟨by decide +kernel, by decide +kernel⟩, lw_t1 (List.mem_of_getElem? (i := 107) rfl), lw_t2 (List.mem_of_getElem? (i := 222) rfl), lw_t2 (List.mem_of_getElem? (i := 223) rfl)⟩
theorem lw_p10 : lw_okq (⟨"PalaceOfRooms$Reader", "number", "(II)I"⟩, 6) := ⟨⟨by decide +kernel, by decide +kernel⟩, lw_t1 (List.mem_of_getElem? (i := 107) rfl), lw_t3 (List.mem_of_getElem? (i := 34) rfl), lw_t3 (List.mem_of_getElem? (i := 35) rfl)⟩
theorem lw_p11 : lw_okq (⟨"PalaceOfRooms$Reader", "need", "(Z)V"⟩, 6) := ⟨⟨by decide +kernel, by decide +kernel⟩, lw_t1 (List.mem_of_getElem? (i := 107) rfl), lw_t3 (List.mem_of_getElem? (i := 38) rfl), lw_t3 (List.mem_of_getElem? (i := 39) rfl)⟩
theorem lw_p12 : lw_okq (⟨"java/lang/Throwable", "fillInStackTrace", "(I)Ljava/lang/Throwable;"⟩, 6) := ⟨⟨by decide +kernel, by decide +kernel⟩, lw_t3 (List.mem_of_getElem? (i := 76) rfl), lw_t3 (List.mem_of_getElem? (i := 74) rfl), lw_t3 (List.mem_of_getElem? (i := 75) rfl)⟩
theorem lw_p13 : lw_okq (⟨"PalaceOfRooms", "roomFor", "(I)I"⟩, 22) := ⟨⟨by decide +kernel, by decide +kernel⟩, lw_t1 (List.mem_of_getElem? (i := 30) rfl), lw_t3 (List.mem_of_getElem? (i := 189) rfl), lw_t3 (List.mem_of_getElem? (i := 190) rfl)⟩
theorem lw_p14 : lw_okq (⟨"PalaceOfRooms", "crowds", "(IIII)Z"⟩, 22) := ⟨⟨by decide +kernel, by decide +kernel⟩, lw_t1 (List.mem_of_getElem? (i := 30) rfl), lw_t3 (List.mem_of_getElem? (i := 208) rfl), lw_t3 (List.mem_of_getElem? (i := 209) rfl)⟩
theorem lw_p15 : lw_okq (⟨"PalaceOfRooms", "layHand", "(JIIII)I"⟩, 22) := ⟨⟨by decide +kernel, by decide +kernel⟩, lw_t1 (List.mem_of_getElem? (i := 30) rfl), lw_t3 (List.mem_of_getElem? (i := 232) rfl), lw_t3 (List.mem_of_getElem? (i := 233) rfl)⟩
def lw_privs_1 : List (MethodName × Nat) := [(⟨"PalaceOfRooms", "awayOf", "(II)I"⟩, 22), (⟨"PalaceOfRooms", "likeness", "(II)I"⟩, 22), (⟨"PalaceOfRooms", "whereIs", "(I)I"⟩, 22), (⟨"PalaceOfRooms$House", "likes", "(I)I"⟩, 2), (⟨"PalaceOfRooms", "isLike", "(II)Z"⟩, 22), (⟨"PalaceOfRooms$Reader", "token", "()V"⟩, 6), (⟨"PalaceOfRooms$Reader", "kindAt", "(I)I"⟩, 6), (⟨"PalaceOfRooms$Reader", "line", "()LPalaceOfRooms$Line;"⟩, 6), (⟨"PalaceOfRooms$Reader", "skips", "(Ljava/lang/String;)Z"⟩, 6), (⟨"PalaceOfRooms$Reader", "isWord", "(Ljava/lang/String;)Z"⟩, 6), (⟨"PalaceOfRooms$Reader", "number", "(II)I"⟩, 6), (⟨"PalaceOfRooms$Reader", "need", "(Z)V"⟩, 6), (⟨"java/lang/Throwable", "fillInStackTrace", "(I)Ljava/lang/Throwable;"⟩, 6), (⟨"PalaceOfRooms", "roomFor", "(I)I"⟩, 22), (⟨"PalaceOfRooms", "crowds", "(IIII)Z"⟩, 22), (⟨"PalaceOfRooms", "layHand", "(JIIII)I"⟩, 22)]
theorem lw_r1 : ∀ q ∈ lw_privs_1, lw_okq q := List.forall_mem_cons.mpr ⟨lw_p0, List.forall_mem_cons.mpr ⟨lw_p1, List.forall_mem_cons.mpr ⟨lw_p2, List.forall_mem_cons.mpr ⟨lw_p3, List.forall_mem_cons.mpr ⟨lw_p4, List.forall_mem_cons.mpr ⟨lw_p5, List.forall_mem_cons.mpr ⟨lw_p6, List.forall_mem_cons.mpr ⟨lw_p7, List.forall_mem_cons.mpr ⟨lw_p8, List.forall_mem_cons.mpr ⟨lw_p9, List.forall_mem_cons.mpr ⟨lw_p10, List.forall_mem_cons.mpr ⟨lw_p11, List.forall_mem_cons.mpr ⟨lw_p12, List.forall_mem_cons.mpr ⟨lw_p13, List.forall_mem_cons.mpr ⟨lw_p14, List.forall_mem_cons.mpr ⟨lw_p15, fun _ h => absurd h List.not_mem_nil⟩⟩⟩⟩⟩⟩⟩⟩⟩⟩⟩⟩⟩⟩⟩⟩
theorem lw_p16 : lw_okq (⟨"PalaceOfRooms", "told", "(LPalaceOfRooms$Orders;II)I"⟩, 22) := ⟨⟨by decide +kernel, by decide +kernel⟩, lw_t1 (List.mem_of_getElem? (i := 30) rfl), lw_t4 (List.mem_of_getElem? (i := 47) rfl), lw_t4 (List.mem_of_getElem? (i := 48) rfl)⟩
theorem lw_p17 : lw_okq (⟨"PalaceOfRooms", "costOf", "(I)I"⟩, 22) := ⟨⟨by decide +kernel, by decide +kernel⟩, lw_t1 (List.mem_of_getElem? (i := 30) rfl), lw_t4 (List.mem_of_getElem? (i := 87) rfl), lw_t4 (List.mem_of_getElem? (i := 88) rfl)⟩
theorem lw_p18 : lw_okq (⟨"PalaceOfRooms", "layCosts", "()V"⟩, 22) := ⟨⟨by decide +kernel, by decide +kernel⟩, lw_t1 (List.mem_of_getElem? (i := 30) rfl), lw_t4 (List.mem_of_getElem? (i := 103) rfl), lw_t4 (List.mem_of_getElem? (i := 104) rfl)⟩
theorem lw_p19 : lw_okq (⟨"PalaceOfRooms", "layPlan", "(II)V"⟩, 22) := ⟨⟨by decide +kernel, by decide +kernel⟩, lw_t1 (List.mem_of_getElem? (i := 30) rfl), lw_t4 (List.mem_of_getElem? (i := 107) rfl), lw_t4 (List.mem_of_getElem? (i := 108) rfl)⟩
theorem lw_p20 : lw_okq (⟨"PalaceOfRooms", "strengthBehind", "(II)I"⟩, 22) := ⟨⟨by decide +kernel, by decide +kernel⟩, lw_t1 (List.mem_of_getElem? (i := 30) rfl), lw_t4 (List.mem_of_getElem? (i := 111) rfl), lw_t4 (List.mem_of_getElem? (i := 112) rfl)⟩
theorem lw_p21 : lw_okq (⟨"PalaceOfRooms$Pupil", "unlike", "(I)I"⟩, 3) := ⟨⟨by decide +kernel, by decide +kernel⟩, lw_t1 (List.mem_of_getElem? (i := 183) rfl), lw_t4 (List.mem_of_getElem? (i := 189) rfl), lw_t4 (List.mem_of_getElem? (i := 190) rfl)⟩
theorem lw_p22 : lw_okq (⟨"PalaceOfRoomsModel", "areJoined", "(II)Z"⟩, 39) := ⟨⟨by decide +kernel, by decide +kernel⟩, lw_t4 (List.mem_of_getElem? (i := 206) rfl), lw_t5 (List.mem_of_getElem? (i := 100) rfl), lw_t5 (List.mem_of_getElem? (i := 101) rfl)⟩
theorem lw_p23 : lw_okq (⟨"PalaceOfRoomsModel", "doorsTo", "(II)I"⟩, 39) := ⟨⟨by decide +kernel, by decide +kernel⟩, lw_t4 (List.mem_of_getElem? (i := 206) rfl), lw_t5 (List.mem_of_getElem? (i := 108) rfl), lw_t5 (List.mem_of_getElem? (i := 109) rfl)⟩
theorem lw_p24 : lw_okq (⟨"PalaceOfRoomsModel", "likeness", "(II)I"⟩, 39) := ⟨⟨by decide +kernel, by decide +kernel⟩, lw_t4 (List.mem_of_getElem? (i := 206) rfl), lw_t5 (List.mem_of_getElem? (i := 123) rfl), lw_t5 (List.mem_of_getElem? (i := 124) rfl)⟩
theorem lw_p25 : lw_okq (⟨"PalaceOfRoomsModel", "cornerOf", "(I)I"⟩, 39) := ⟨⟨by decide +kernel, by decide +kernel⟩, lw_t4 (List.mem_of_getElem? (i := 206) rfl), lw_t5 (List.mem_of_getElem? (i := 142) rfl), lw_t5 (List.mem_of_getElem? (i := 143) rfl)⟩
theorem lw_p26 : lw_okq (⟨"PalaceOfRoomsModel", "lookAhead", "()V"⟩, 39) := ⟨⟨by decide +kernel, by decide +kernel⟩, lw_t4 (List.mem_of_getElem? (i := 206) rfl), lw_t5 (List.mem_of_getElem? (i := 162) rfl), lw_t5 (List.mem_of_getElem? (i := 163) rfl)⟩
theorem lw_p27 : lw_okq (⟨"PalaceOfRoomsModel", "goDay", "(II)V"⟩, 39) := ⟨⟨by decide +kernel, by decide +kernel⟩, lw_t4 (List.mem_of_getElem? (i := 206) rfl), lw_t5 (List.mem_of_getElem? (i := 166) rfl), lw_t5 (List.mem_of_getElem? (i := 167) rfl)⟩
theorem lw_p28 : lw_okq (⟨"PalaceOfRoomsModel", "likeBeside", "(I)I"⟩, 39) := ⟨⟨by decide +kernel, by decide +kernel⟩, lw_t4 (List.mem_of_getElem? (i := 206) rfl), lw_t5 (List.mem_of_getElem? (i := 170) rfl), lw_t5 (List.mem_of_getElem? (i := 171) rfl)⟩
theorem lw_p29 : lw_okq (⟨"PalaceOfRoomsModel", "goWalk", "(II)I"⟩, 39) := ⟨⟨by decide +kernel, by decide +kernel⟩, lw_t4 (List.mem_of_getElem? (i := 206) rfl), lw_t5 (List.mem_of_getElem? (i := 178) rfl), lw_t5 (List.mem_of_getElem? (i := 179) rfl)⟩
theorem lw_p30 : lw_okq (⟨"PalaceOfRoomsModel", "isRead", "()Z"⟩, 39) := ⟨⟨by decide +kernel, by decide +kernel⟩, lw_t4 (List.mem_of_getElem? (i := 206) rfl), lw_t5 (List.mem_of_getElem? (i := 195) rfl), lw_t5 (List.mem_of_getElem? (i := 196) rfl)⟩
theorem lw_p31 : lw_okq (⟨"PalaceOfRoomsModel", "isLine", "(I)Z"⟩, 39) := ⟨⟨by decide +kernel, by decide +kernel⟩, lw_t4 (List.mem_of_getElem? (i := 206) rfl), lw_t5 (List.mem_of_getElem? (i := 199) rfl), lw_t5 (List.mem_of_getElem? (i := 200) rfl)⟩
def lw_privs_2 : List (MethodName × Nat) := [(⟨"PalaceOfRooms", "told", "(LPalaceOfRooms$Orders;II)I"⟩, 22), (⟨"PalaceOfRooms", "costOf", "(I)I"⟩, 22), (⟨"PalaceOfRooms", "layCosts", "()V"⟩, 22), (⟨"PalaceOfRooms", "layPlan", "(II)V"⟩, 22), (⟨"PalaceOfRooms", "strengthBehind", "(II)I"⟩, 22), (⟨"PalaceOfRooms$Pupil", "unlike", "(I)I"⟩, 3), (⟨"PalaceOfRoomsModel", "areJoined", "(II)Z"⟩, 39), (⟨"PalaceOfRoomsModel", "doorsTo", "(II)I"⟩, 39), (⟨"PalaceOfRoomsModel", "likeness", "(II)I"⟩, 39), (⟨"PalaceOfRoomsModel", "cornerOf", "(I)I"⟩, 39), (⟨"PalaceOfRoomsModel", "lookAhead", "()V"⟩, 39), (⟨"PalaceOfRoomsModel", "goDay", "(II)V"⟩, 39), (⟨"PalaceOfRoomsModel", "likeBeside", "(I)I"⟩, 39), (⟨"PalaceOfRoomsModel", "goWalk", "(II)I"⟩, 39), (⟨"PalaceOfRoomsModel", "isRead", "()Z"⟩, 39), (⟨"PalaceOfRoomsModel", "isLine", "(I)Z"⟩, 39)]
theorem lw_r2 : ∀ q ∈ lw_privs_2, lw_okq q := List.forall_mem_cons.mpr ⟨lw_p16, List.forall_mem_cons.mpr ⟨lw_p17, List.forall_mem_cons.mpr ⟨lw_p18, List.forall_mem_cons.mpr ⟨lw_p19, List.forall_mem_cons.mpr ⟨lw_p20, List.forall_mem_cons.mpr ⟨lw_p21, List.forall_mem_cons.mpr ⟨lw_p22, List.forall_mem_cons.mpr ⟨lw_p23, List.forall_mem_cons.mpr ⟨lw_p24, List.forall_mem_cons.mpr ⟨lw_p25, List.forall_mem_cons.mpr ⟨lw_p26, List.forall_mem_cons.mpr ⟨lw_p27, List.forall_mem_cons.mpr ⟨lw_p28, List.forall_mem_cons.mpr ⟨lw_p29, List.forall_mem_cons.mpr ⟨lw_p30, List.forall_mem_cons.mpr ⟨lw_p31, fun _ h => absurd h List.not_mem_nil⟩⟩⟩⟩⟩⟩⟩⟩⟩⟩⟩⟩⟩⟩⟩⟩
theorem lw_p32 : lw_okq (⟨"PalaceOfRoomsModel", "nextToken", "()V"⟩, 39) := ⟨⟨by decide +kernel, by decide +kernel⟩, lw_t4 (List.mem_of_getElem? (i := 206) rfl), lw_t5 (List.mem_of_getElem? (i := 203) rfl), lw_t5 (List.mem_of_getElem? (i := 204) rfl)⟩
theorem lw_p33 : lw_okq (⟨"PalaceOfRoomsModel", "isNumber", "(III)Z"⟩, 39) := ⟨⟨by decide +kernel, by decide +kernel⟩, lw_t4 (List.mem_of_getElem? (i := 206) rfl), lw_t5 (List.mem_of_getElem? (i := 217) rfl), lw_t5 (List.mem_of_getElem? (i := 218) rfl)⟩
theorem lw_p34 : lw_okq (⟨"PalaceOfRoomsModel", "fails", "()Z"⟩, 39) := ⟨⟨by decide +kernel, by decide +kernel⟩, lw_t4 (List.mem_of_getElem? (i := 206) rfl), lw_t5 (List.mem_of_getElem? (i := 221) rfl), lw_t5 (List.mem_of_getElem? (i := 222) rfl)⟩
theorem lw_p35 : lw_okq (⟨"PalaceOfRoomsModel", "isWord", "(J)Z"⟩, 39) := ⟨⟨by decide +kernel, by decide +kernel⟩, lw_t4 (List.mem_of_getElem? (i := 206) rfl), lw_t5 (List.mem_of_getElem? (i := 226) rfl), lw_t5 (List.mem_of_getElem? (i := 227) rfl)⟩
theorem lw_p36 : lw_okq (⟨"PalaceOfRoomsModel", "standIn", "(I)I"⟩, 39) := ⟨⟨by decide +kernel, by decide +kernel⟩, lw_t4 (List.mem_of_getElem? (i := 206) rfl), lw_t5 (List.mem_of_getElem? (i := 238) rfl), lw_t5 (List.mem_of_getElem? (i := 239) rfl)⟩
theorem lw_p37 : lw_okq (⟨"PalaceOfRoomsModel", "lastOf", "(III)I"⟩, 39) := ⟨⟨by decide +kernel, by decide +kernel⟩, lw_t4 (List.mem_of_getElem? (i := 206) rfl), lw_t6 (List.mem_of_getElem? (i := 2) rfl), lw_t6 (List.mem_of_getElem? (i := 3) rfl)⟩
theorem lw_p38 : lw_okq (⟨"PalaceOfRoomsModel", "isTooLike", "(III)Z"⟩, 39) := ⟨⟨by decide +kernel, by decide +kernel⟩, lw_t4 (List.mem_of_getElem? (i := 206) rfl), lw_t6 (List.mem_of_getElem? (i := 6) rfl), lw_t6 (List.mem_of_getElem? (i := 7) rfl)⟩
theorem lw_p39 : lw_okq (⟨"PalaceOfRoomsModel", "take", "(JI)I"⟩, 39) := ⟨⟨by decide +kernel, by decide +kernel⟩, lw_t4 (List.mem_of_getElem? (i := 206) rfl), lw_t6 (List.mem_of_getElem? (i := 18) rfl), lw_t6 (List.mem_of_getElem? (i := 19) rfl)⟩
theorem lw_p40 : lw_okq (⟨"PalaceOfRoomsModel", "findOrder", "(IZ)V"⟩, 39) := ⟨⟨by decide +kernel, by decide +kernel⟩, lw_t4 (List.mem_of_getElem? (i := 206) rfl), lw_t6 (List.mem_of_getElem? (i := 23) rfl), lw_t6 (List.mem_of_getElem? (i := 24) rfl)⟩
theorem lw_p41 : lw_okq (⟨"PalaceOfRoomsModel", "speechOf", "(I)I"⟩, 39) := ⟨⟨by decide +kernel, by decide +kernel⟩, lw_t4 (List.mem_of_getElem? (i := 206) rfl), lw_t6 (List.mem_of_getElem? (i := 27) rfl), lw_t6 (List.mem_of_getElem? (i := 28) rfl)⟩
theorem lw_p42 : lw_okq (⟨"PalaceOfRoomsModel", "harmOf", "(I)I"⟩, 39) := ⟨⟨by decide +kernel, by decide +kernel⟩, lw_t4 (List.mem_of_getElem? (i := 206) rfl), lw_t6 (List.mem_of_getElem? (i := 31) rfl), lw_t6 (List.mem_of_getElem? (i := 32) rfl)⟩
theorem lw_p43 : lw_okq (⟨"PalaceOfRoomsModel", "costOf", "(I)I"⟩, 39) := ⟨⟨by decide +kernel, by decide +kernel⟩, lw_t4 (List.mem_of_getElem? (i := 206) rfl), lw_t6 (List.mem_of_getElem? (i := 39) rfl), lw_t6 (List.mem_of_getElem? (i := 40) rfl)⟩
theorem lw_p44 : lw_okq (⟨"PalaceOfRoomsModel", "isGone", "(III)Z"⟩, 39) := ⟨⟨by decide +kernel, by decide +kernel⟩, lw_t4 (List.mem_of_getElem? (i := 206) rfl), lw_t6 (List.mem_of_getElem? (i := 50) rfl), lw_t6 (List.mem_of_getElem? (i := 51) rfl)⟩
theorem lw_p45 : lw_okq (⟨"PalaceOfRoomsModel", "allAt", "(I)I"⟩, 39) := ⟨⟨by decide +kernel, by decide +kernel⟩, lw_t4 (List.mem_of_getElem? (i := 206) rfl), lw_t6 (List.mem_of_getElem? (i := 54) rfl), lw_t6 (List.mem_of_getElem? (i := 55) rfl)⟩
theorem lw_p46 : lw_okq (⟨"PalaceOfRoomsModel", "agrees", "(II)I"⟩, 39) := ⟨⟨by decide +kernel, by decide +kernel⟩, lw_t4 (List.mem_of_getElem? (i := 206) rfl), lw_t6 (List.mem_of_getElem? (i := 89) rfl), lw_t6 (List.mem_of_getElem? (i := 90) rfl)⟩
theorem lw_p47 : lw_okq (⟨"PalaceOfRoomsModel", "partsMost", "(I)I"⟩, 39) := ⟨⟨by decide +kernel, by decide +kernel⟩, lw_t4 (List.mem_of_getElem? (i := 206) rfl), lw_t6 (List.mem_of_getElem? (i := 96) rfl), lw_t6 (List.mem_of_getElem? (i := 97) rfl)⟩
def lw_privs_3 : List (MethodName × Nat) := [(⟨"PalaceOfRoomsModel", "nextToken", "()V"⟩, 39), (⟨"PalaceOfRoomsModel", "isNumber", "(III)Z"⟩, 39), (⟨"PalaceOfRoomsModel", "fails", "()Z"⟩, 39), (⟨"PalaceOfRoomsModel", "isWord", "(J)Z"⟩, 39), (⟨"PalaceOfRoomsModel", "standIn", "(I)I"⟩, 39), (⟨"PalaceOfRoomsModel", "lastOf", "(III)I"⟩, 39), (⟨"PalaceOfRoomsModel", "isTooLike", "(III)Z"⟩, 39), (⟨"PalaceOfRoomsModel", "take", "(JI)I"⟩, 39), (⟨"PalaceOfRoomsModel", "findOrder", "(IZ)V"⟩, 39), (⟨"PalaceOfRoomsModel", "speechOf", "(I)I"⟩, 39), (⟨"PalaceOfRoomsModel", "harmOf", "(I)I"⟩, 39), (⟨"PalaceOfRoomsModel", "costOf", "(I)I"⟩, 39), (⟨"PalaceOfRoomsModel", "isGone", "(III)Z"⟩, 39), (⟨"PalaceOfRoomsModel", "allAt", "(I)I"⟩, 39), (⟨"PalaceOfRoomsModel", "agrees", "(II)I"⟩, 39), (⟨"PalaceOfRoomsModel", "partsMost", "(I)I"⟩, 39)]
theorem lw_r3 : ∀ q ∈ lw_privs_3, lw_okq q := List.forall_mem_cons.mpr ⟨lw_p32, List.forall_mem_cons.mpr ⟨lw_p33, List.forall_mem_cons.mpr ⟨lw_p34, List.forall_mem_cons.mpr ⟨lw_p35, List.forall_mem_cons.mpr ⟨lw_p36, List.forall_mem_cons.mpr ⟨lw_p37, List.forall_mem_cons.mpr ⟨lw_p38, List.forall_mem_cons.mpr ⟨lw_p39, List.forall_mem_cons.mpr ⟨lw_p40, List.forall_mem_cons.mpr ⟨lw_p41, List.forall_mem_cons.mpr ⟨lw_p42, List.forall_mem_cons.mpr ⟨lw_p43, List.forall_mem_cons.mpr ⟨lw_p44, List.forall_mem_cons.mpr ⟨lw_p45, List.forall_mem_cons.mpr ⟨lw_p46, List.forall_mem_cons.mpr ⟨lw_p47, fun _ h => absurd h List.not_mem_nil⟩⟩⟩⟩⟩⟩⟩⟩⟩⟩⟩⟩⟩⟩⟩⟩
def lw_privs : List (MethodName × Nat) := lw_privs_1 ++ (lw_privs_2 ++ (lw_privs_3))
def lw_tbl : List Cond := k2_sels lw_privs ++ tables_1
theorem lw_privs_ok : ∀ q ∈ lw_privs, lw_okq q := by
  show ∀ q ∈ lw_privs_1 ++ (lw_privs_2 ++ (lw_privs_3)), lw_okq q
  exact List.forall_mem_append.mpr ⟨lw_r1, List.forall_mem_append.mpr ⟨lw_r2, lw_r3⟩⟩
-- ===== ONE list of words for every method: the tables' words that hold all through a run =====
def lw_all : List Cond := lw_tbl.filter goodWord
/-- a word of the tables by its place: claim/WORDS.tsv -/
theorem lw_w {w : Cond} (i : Nat) (h : lw_tbl[i]? = some w) (g : goodWord w = true) : w ∈ lw_all := List.mem_filter.mpr ⟨List.mem_of_getElem? h, g⟩
theorem lw_all_tbl {w : Cond} (h : w ∈ lw_all) : w ∈ lw_tbl := (List.mem_filter.mp h).1
theorem lw_self : GoodIn lw_all lw_all := fun w h => ⟨h, good_of_word (List.mem_filter.mp h).2⟩
/-- a class's field words, by their places -/
theorem lw_in (ws : List Cond) (ps : List Nat) (hp : ws = ps.filterMap (fun i => lw_tbl[i]?)) (hg : ws.all goodWord = true) : ∀ w ∈ ws, w ∈ lw_all := by
  intro w h
  have h1 := List.all_eq_true.mp hg w h
  rw [hp] at h
  obtain ⟨i, -, hi⟩ := List.mem_filterMap.mp h
  exact lw_w i hi h1
/-- the words of a contract for the method y with code b, L locals, answer r -/
abbrev ws_ (y : MethodName) (b : ByteArray) (L : Nat) (r : Option FieldType) : List Cond := Cond.code y b L r :: lw_all
theorem lw_meth {y : MethodName} {b : ByteArray} {L : Nat} {r : Option FieldType} (h : Cond.code y b L r ∈ lw_all) : GoodIn lw_all (ws_ y b L r) := by
  intro w hw
  rcases List.mem_cons.mp hw with e | e
  · rw [e]
    exact lw_self _ h
  · exact lw_self _ e
theorem lw_app {a c : List Cond} (ha : ∀ w ∈ a, w ∈ lw_all) (hc : GoodIn lw_all c) : GoodIn lw_all (a ++ c) := by
  intro w hw
  rcases List.mem_append.mp hw with e | e
  · exact lw_self w (ha w e)
  · exact hc w e
/-- what a call through an object asks: cwV n hts (lw_V ..) -/
theorem lw_V {own : String} {idx : Nat} {C : String} {y : MethodName} {b : ByteArray} {L : Nat} {r : Option FieldType} (h1 : Cond.methodLink own idx y ∈ lw_all) (h2 : Cond.instanceMethod y ∈ lw_all) (h3 : Cond.selects C y y ∈ lw_all) (h4 : Cond.initialized C ∈ lw_all) (h5 : Cond.code y b L r ∈ lw_all) : GoodIn lw_all (wsV own idx C y (ws_ y b L r)) := by
  refine lw_app ?_ (lw_meth h5)
  intro w hw
  simp only [List.mem_cons, List.not_mem_nil, or_false] at hw
  rcases hw with e | e | e | e
  · rw [e]; exact h1
  · rw [e]; exact h2
  · rw [e]; exact h3
  · rw [e]; exact h4
/-- what a static call asks: va_cwS n hts (lw_S ..) -/
theorem lw_S {own : String} {idx : Nat} {y : MethodName} {b : ByteArray} {L : Nat} {r : Option FieldType} (h1 : Cond.methodLink own idx y ∈ lw_all) (h2 : Cond.static y ∈ lw_all) (h3 : Cond.initialized y.cls ∈ lw_all) (h4 : Cond.code y b L r ∈ lw_all) : GoodIn lw_all (va_wsS own idx y (ws_ y b L r)) := by
  refine lw_app ?_ (lw_meth h4)
  intro w hw
  simp only [List.mem_cons, List.not_mem_nil, or_false] at hw
  rcases hw with e | e | e
  · rw [e]; exact h1
  · rw [e]; exact h2
  · rw [e]; exact h3
/-- the words of a contract for a method WITH HANDLERS (hh: its table) -/
abbrev wsW_ (y : MethodName) (b : ByteArray) (L : Nat) (r : Option FieldType) (hh : List (Nat × Nat × Nat × Nat)) : List Cond := Cond.codeWith y b L r hh :: lw_all
theorem lw_methW {y : MethodName} {b : ByteArray} {L : Nat} {r : Option FieldType} {hh : List (Nat × Nat × Nat × Nat)} (h : Cond.codeWith y b L r hh ∈ lw_all) : GoodIn lw_all (wsW_ y b L r hh) := by
  intro w hw
  rcases List.mem_cons.mp hw with e | e
  · rw [e]
    exact lw_self _ h
  · exact lw_self _ e
/-- any list of words by their places (lw_in), good -/
theorem lw_good {ws : List Cond} (h : ∀ w ∈ ws, w ∈ lw_all) : GoodIn lw_all ws := fun w hw => lw_self w (h w hw)
/-- what a call of a method with handlers asks: vx_cwVW n hts (lw_VW ..), vx_cwSW n hts (lw_SW ..) -/
theorem lw_VW {own : String} {idx : Nat} {C : String} {y : MethodName} {b : ByteArray} {L : Nat} {r : Option FieldType} {hh : List (Nat × Nat × Nat × Nat)} (h1 : Cond.methodLink own idx y ∈ lw_all) (h2 : Cond.instanceMethod y ∈ lw_all) (h3 : Cond.selects C y y ∈ lw_all) (h4 : Cond.initialized C ∈ lw_all) (h5 : Cond.codeWith y b L r hh ∈ lw_all) : GoodIn lw_all (wsV own idx C y (wsW_ y b L r hh)) := by
  refine lw_app ?_ (lw_methW h5)
  intro w hw
  simp only [List.mem_cons, List.not_mem_nil, or_false] at hw
  rcases hw with e | e | e | e
  · rw [e]; exact h1
  · rw [e]; exact h2
  · rw [e]; exact h3
  · rw [e]; exact h4
theorem lw_SW {own : String} {idx : Nat} {y : MethodName} {b : ByteArray} {L : Nat} {r : Option FieldType} {hh : List (Nat × Nat × Nat × Nat)} (h1 : Cond.methodLink own idx y ∈ lw_all) (h2 : Cond.static y ∈ lw_all) (h3 : Cond.initialized y.cls ∈ lw_all) (h4 : Cond.codeWith y b L r hh ∈ lw_all) : GoodIn lw_all (va_wsS own idx y (wsW_ y b L r hh)) := by
  refine lw_app ?_ (lw_methW h4)
  intro w hw
  simp only [List.mem_cons, List.not_mem_nil, or_false] at hw
  rcases hw with e | e | e
  · rw [e]; exact h1
  · rw [e]; exact h2
  · rw [e]; exact h3
/-- a word by its place in its run of the tables -/
theorem lw_at {r : List Cond} (hr : ∀ w ∈ r, w ∈ lw_tbl) {w : Cond} (i : Nat) (h : r[i]? = some w) : w ∈ lw_tbl := hr w (List.mem_of_getElem? h)
theorem lw_g {w : Cond} (h : w ∈ lw_tbl) (g : goodWord w = true) : w ∈ lw_all := List.mem_filter.mpr ⟨h, g⟩
theorem lw_ms : ∀ w ∈ k2_sels lw_privs, w ∈ lw_tbl := fun w h => show w ∈ k2_sels lw_privs ++ tables_1 from List.mem_append_left _ h
theorem lw_m1 : ∀ w ∈ tables_1_1, w ∈ lw_tbl := fun w h => show w ∈ k2_sels lw_privs ++ tables_1 from List.mem_append_right (k2_sels lw_privs) (show w ∈ tables_1 from List.mem_append_left _ h)
theorem lw_m2 : ∀ w ∈ tables_1_2, w ∈ lw_tbl := fun w h => show w ∈ k2_sels lw_privs ++ tables_1 from List.mem_append_right (k2_sels lw_privs) (show w ∈ tables_1 from List.mem_append_right _ (List.mem_append_left _ h))
theorem lw_m3 : ∀ w ∈ tables_1_3, w ∈ lw_tbl := fun w h => show w ∈ k2_sels lw_privs ++ tables_1 from List.mem_append_right (k2_sels lw_privs) (show w ∈ tables_1 from List.mem_append_right _ (List.mem_append_right _ (List.mem_append_left _ h)))
theorem lw_m4 : ∀ w ∈ tables_1_4, w ∈ lw_tbl := fun w h => show w ∈ k2_sels lw_privs ++ tables_1 from List.mem_append_right (k2_sels lw_privs) (show w ∈ tables_1 from List.mem_append_right _ (List.mem_append_right _ (List.mem_append_right _ (List.mem_append_left _ h))))
theorem lw_m5 : ∀ w ∈ tables_1_5, w ∈ lw_tbl := fun w h => show w ∈ k2_sels lw_privs ++ tables_1 from List.mem_append_right (k2_sels lw_privs) (show w ∈ tables_1 from List.mem_append_right _ (List.mem_append_right _ (List.mem_append_right _ (List.mem_append_right _ (List.mem_append_left _ h)))))
theorem lw_m6 : ∀ w ∈ tables_1_6, w ∈ lw_tbl := fun w h => show w ∈ k2_sels lw_privs ++ tables_1 from List.mem_append_right (k2_sels lw_privs) (show w ∈ tables_1 from List.mem_append_right _ (List.mem_append_right _ (List.mem_append_right _ (List.mem_append_right _ (List.mem_append_right _ h)))))
theorem qs0 : (Cond.selects "PalaceOfRooms" ⟨"PalaceOfRooms", "awayOf", "(II)I"⟩ ⟨"PalaceOfRooms", "awayOf", "(II)I"⟩) ∈ lw_all := lw_g (lw_at lw_ms 0 rfl) rfl
theorem qs1 : (Cond.selects "PalaceOfRooms" ⟨"PalaceOfRooms", "likeness", "(II)I"⟩ ⟨"PalaceOfRooms", "likeness", "(II)I"⟩) ∈ lw_all := lw_g (lw_at lw_ms 1 rfl) rfl
theorem qs2 : (Cond.selects "PalaceOfRooms" ⟨"PalaceOfRooms", "whereIs", "(I)I"⟩ ⟨"PalaceOfRooms", "whereIs", "(I)I"⟩) ∈ lw_all := lw_g (lw_at lw_ms 2 rfl) rfl
theorem qs3 : (Cond.selects "PalaceOfRooms$House" ⟨"PalaceOfRooms$House", "likes", "(I)I"⟩ ⟨"PalaceOfRooms$House", "likes", "(I)I"⟩) ∈ lw_all := lw_g (lw_at lw_ms 3 rfl) rfl
theorem qs4 : (Cond.selects "PalaceOfRooms" ⟨"PalaceOfRooms", "isLike", "(II)Z"⟩ ⟨"PalaceOfRooms", "isLike", "(II)Z"⟩) ∈ lw_all := lw_g (lw_at lw_ms 4 rfl) rfl
theorem qs5 : (Cond.selects "PalaceOfRooms$Reader" ⟨"PalaceOfRooms$Reader", "token", "()V"⟩ ⟨"PalaceOfRooms$Reader", "token", "()V"⟩) ∈ lw_all := lw_g (lw_at lw_ms 5 rfl) rfl
theorem qs6 : (Cond.selects "PalaceOfRooms$Reader" ⟨"PalaceOfRooms$Reader", "kindAt", "(I)I"⟩ ⟨"PalaceOfRooms$Reader", "kindAt", "(I)I"⟩) ∈ lw_all := lw_g (lw_at lw_ms 6 rfl) rfl
theorem qs7 : (Cond.selects "PalaceOfRooms$Reader" ⟨"PalaceOfRooms$Reader", "line", "()LPalaceOfRooms$Line;"⟩ ⟨"PalaceOfRooms$Reader", "line", "()LPalaceOfRooms$Line;"⟩) ∈ lw_all := lw_g (lw_at lw_ms 7 rfl) rfl
theorem qs8 : (Cond.selects "PalaceOfRooms$Reader" ⟨"PalaceOfRooms$Reader", "skips", "(Ljava/lang/String;)Z"⟩ ⟨"PalaceOfRooms$Reader", "skips", "(Ljava/lang/String;)Z"⟩) ∈ lw_all := lw_g (lw_at lw_ms 8 rfl) rfl
theorem qs9 : (Cond.selects "PalaceOfRooms$Reader" ⟨"PalaceOfRooms$Reader", "isWord", "(Ljava/lang/String;)Z"⟩ ⟨"PalaceOfRooms$Reader", "isWord", "(Ljava/lang/String;)Z"⟩) ∈ lw_all := lw_g (lw_at lw_ms 9 rfl) rfl
theorem qs10 : (Cond.selects "PalaceOfRooms$Reader" ⟨"PalaceOfRooms$Reader", "number", "(II)I"⟩ ⟨"PalaceOfRooms$Reader", "number", "(II)I"⟩) ∈ lw_all := lw_g (lw_at lw_ms 10 rfl) rfl
theorem qs11 : (Cond.selects "PalaceOfRooms$Reader" ⟨"PalaceOfRooms$Reader", "need", "(Z)V"⟩ ⟨"PalaceOfRooms$Reader", "need", "(Z)V"⟩) ∈ lw_all := lw_g (lw_at lw_ms 11 rfl) rfl
theorem qs12 : (Cond.selects "java/lang/Throwable" ⟨"java/lang/Throwable", "fillInStackTrace", "(I)Ljava/lang/Throwable;"⟩ ⟨"java/lang/Throwable", "fillInStackTrace", "(I)Ljava/lang/Throwable;"⟩) ∈ lw_all := lw_g (lw_at lw_ms 12 rfl) rfl
theorem qs13 : (Cond.selects "PalaceOfRooms" ⟨"PalaceOfRooms", "roomFor", "(I)I"⟩ ⟨"PalaceOfRooms", "roomFor", "(I)I"⟩) ∈ lw_all := lw_g (lw_at lw_ms 13 rfl) rfl
theorem qs14 : (Cond.selects "PalaceOfRooms" ⟨"PalaceOfRooms", "crowds", "(IIII)Z"⟩ ⟨"PalaceOfRooms", "crowds", "(IIII)Z"⟩) ∈ lw_all := lw_g (lw_at lw_ms 14 rfl) rfl
theorem qs15 : (Cond.selects "PalaceOfRooms" ⟨"PalaceOfRooms", "layHand", "(JIIII)I"⟩ ⟨"PalaceOfRooms", "layHand", "(JIIII)I"⟩) ∈ lw_all := lw_g (lw_at lw_ms 15 rfl) rfl
theorem qs16 : (Cond.selects "PalaceOfRooms" ⟨"PalaceOfRooms", "told", "(LPalaceOfRooms$Orders;II)I"⟩ ⟨"PalaceOfRooms", "told", "(LPalaceOfRooms$Orders;II)I"⟩) ∈ lw_all := lw_g (lw_at lw_ms 16 rfl) rfl
theorem qs17 : (Cond.selects "PalaceOfRooms" ⟨"PalaceOfRooms", "costOf", "(I)I"⟩ ⟨"PalaceOfRooms", "costOf", "(I)I"⟩) ∈ lw_all := lw_g (lw_at lw_ms 17 rfl) rfl
theorem qs18 : (Cond.selects "PalaceOfRooms" ⟨"PalaceOfRooms", "layCosts", "()V"⟩ ⟨"PalaceOfRooms", "layCosts", "()V"⟩) ∈ lw_all := lw_g (lw_at lw_ms 18 rfl) rfl
theorem qs19 : (Cond.selects "PalaceOfRooms" ⟨"PalaceOfRooms", "layPlan", "(II)V"⟩ ⟨"PalaceOfRooms", "layPlan", "(II)V"⟩) ∈ lw_all := lw_g (lw_at lw_ms 19 rfl) rfl
theorem qs20 : (Cond.selects "PalaceOfRooms" ⟨"PalaceOfRooms", "strengthBehind", "(II)I"⟩ ⟨"PalaceOfRooms", "strengthBehind", "(II)I"⟩) ∈ lw_all := lw_g (lw_at lw_ms 20 rfl) rfl
theorem qs21 : (Cond.selects "PalaceOfRooms$Pupil" ⟨"PalaceOfRooms$Pupil", "unlike", "(I)I"⟩ ⟨"PalaceOfRooms$Pupil", "unlike", "(I)I"⟩) ∈ lw_all := lw_g (lw_at lw_ms 21 rfl) rfl
theorem qs22 : (Cond.selects "PalaceOfRoomsModel" ⟨"PalaceOfRoomsModel", "areJoined", "(II)Z"⟩ ⟨"PalaceOfRoomsModel", "areJoined", "(II)Z"⟩) ∈ lw_all := lw_g (lw_at lw_ms 22 rfl) rfl
theorem qs23 : (Cond.selects "PalaceOfRoomsModel" ⟨"PalaceOfRoomsModel", "doorsTo", "(II)I"⟩ ⟨"PalaceOfRoomsModel", "doorsTo", "(II)I"⟩) ∈ lw_all := lw_g (lw_at lw_ms 23 rfl) rfl
theorem qs24 : (Cond.selects "PalaceOfRoomsModel" ⟨"PalaceOfRoomsModel", "likeness", "(II)I"⟩ ⟨"PalaceOfRoomsModel", "likeness", "(II)I"⟩) ∈ lw_all := lw_g (lw_at lw_ms 24 rfl) rfl
theorem qs25 : (Cond.selects "PalaceOfRoomsModel" ⟨"PalaceOfRoomsModel", "cornerOf", "(I)I"⟩ ⟨"PalaceOfRoomsModel", "cornerOf", "(I)I"⟩) ∈ lw_all := lw_g (lw_at lw_ms 25 rfl) rfl
theorem qs26 : (Cond.selects "PalaceOfRoomsModel" ⟨"PalaceOfRoomsModel", "lookAhead", "()V"⟩ ⟨"PalaceOfRoomsModel", "lookAhead", "()V"⟩) ∈ lw_all := lw_g (lw_at lw_ms 26 rfl) rfl
theorem qs27 : (Cond.selects "PalaceOfRoomsModel" ⟨"PalaceOfRoomsModel", "goDay", "(II)V"⟩ ⟨"PalaceOfRoomsModel", "goDay", "(II)V"⟩) ∈ lw_all := lw_g (lw_at lw_ms 27 rfl) rfl
theorem qs28 : (Cond.selects "PalaceOfRoomsModel" ⟨"PalaceOfRoomsModel", "likeBeside", "(I)I"⟩ ⟨"PalaceOfRoomsModel", "likeBeside", "(I)I"⟩) ∈ lw_all := lw_g (lw_at lw_ms 28 rfl) rfl
theorem qs29 : (Cond.selects "PalaceOfRoomsModel" ⟨"PalaceOfRoomsModel", "goWalk", "(II)I"⟩ ⟨"PalaceOfRoomsModel", "goWalk", "(II)I"⟩) ∈ lw_all := lw_g (lw_at lw_ms 29 rfl) rfl
theorem qs30 : (Cond.selects "PalaceOfRoomsModel" ⟨"PalaceOfRoomsModel", "isRead", "()Z"⟩ ⟨"PalaceOfRoomsModel", "isRead", "()Z"⟩) ∈ lw_all := lw_g (lw_at lw_ms 30 rfl) rfl
theorem qs31 : (Cond.selects "PalaceOfRoomsModel" ⟨"PalaceOfRoomsModel", "isLine", "(I)Z"⟩ ⟨"PalaceOfRoomsModel", "isLine", "(I)Z"⟩) ∈ lw_all := lw_g (lw_at lw_ms 31 rfl) rfl
theorem qs32 : (Cond.selects "PalaceOfRoomsModel" ⟨"PalaceOfRoomsModel", "nextToken", "()V"⟩ ⟨"PalaceOfRoomsModel", "nextToken", "()V"⟩) ∈ lw_all := lw_g (lw_at lw_ms 32 rfl) rfl
theorem qs33 : (Cond.selects "PalaceOfRoomsModel" ⟨"PalaceOfRoomsModel", "isNumber", "(III)Z"⟩ ⟨"PalaceOfRoomsModel", "isNumber", "(III)Z"⟩) ∈ lw_all := lw_g (lw_at lw_ms 33 rfl) rfl
theorem qs34 : (Cond.selects "PalaceOfRoomsModel" ⟨"PalaceOfRoomsModel", "fails", "()Z"⟩ ⟨"PalaceOfRoomsModel", "fails", "()Z"⟩) ∈ lw_all := lw_g (lw_at lw_ms 34 rfl) rfl
theorem qs35 : (Cond.selects "PalaceOfRoomsModel" ⟨"PalaceOfRoomsModel", "isWord", "(J)Z"⟩ ⟨"PalaceOfRoomsModel", "isWord", "(J)Z"⟩) ∈ lw_all := lw_g (lw_at lw_ms 35 rfl) rfl
theorem qs36 : (Cond.selects "PalaceOfRoomsModel" ⟨"PalaceOfRoomsModel", "standIn", "(I)I"⟩ ⟨"PalaceOfRoomsModel", "standIn", "(I)I"⟩) ∈ lw_all := lw_g (lw_at lw_ms 36 rfl) rfl
theorem qs37 : (Cond.selects "PalaceOfRoomsModel" ⟨"PalaceOfRoomsModel", "lastOf", "(III)I"⟩ ⟨"PalaceOfRoomsModel", "lastOf", "(III)I"⟩) ∈ lw_all := lw_g (lw_at lw_ms 37 rfl) rfl
theorem qs38 : (Cond.selects "PalaceOfRoomsModel" ⟨"PalaceOfRoomsModel", "isTooLike", "(III)Z"⟩ ⟨"PalaceOfRoomsModel", "isTooLike", "(III)Z"⟩) ∈ lw_all := lw_g (lw_at lw_ms 38 rfl) rfl
theorem qs39 : (Cond.selects "PalaceOfRoomsModel" ⟨"PalaceOfRoomsModel", "take", "(JI)I"⟩ ⟨"PalaceOfRoomsModel", "take", "(JI)I"⟩) ∈ lw_all := lw_g (lw_at lw_ms 39 rfl) rfl
theorem qs40 : (Cond.selects "PalaceOfRoomsModel" ⟨"PalaceOfRoomsModel", "findOrder", "(IZ)V"⟩ ⟨"PalaceOfRoomsModel", "findOrder", "(IZ)V"⟩) ∈ lw_all := lw_g (lw_at lw_ms 40 rfl) rfl
theorem qs41 : (Cond.selects "PalaceOfRoomsModel" ⟨"PalaceOfRoomsModel", "speechOf", "(I)I"⟩ ⟨"PalaceOfRoomsModel", "speechOf", "(I)I"⟩) ∈ lw_all := lw_g (lw_at lw_ms 41 rfl) rfl
theorem qs42 : (Cond.selects "PalaceOfRoomsModel" ⟨"PalaceOfRoomsModel", "harmOf", "(I)I"⟩ ⟨"PalaceOfRoomsModel", "harmOf", "(I)I"⟩) ∈ lw_all := lw_g (lw_at lw_ms 42 rfl) rfl
theorem qs43 : (Cond.selects "PalaceOfRoomsModel" ⟨"PalaceOfRoomsModel", "costOf", "(I)I"⟩ ⟨"PalaceOfRoomsModel", "costOf", "(I)I"⟩) ∈ lw_all := lw_g (lw_at lw_ms 43 rfl) rfl
theorem qs44 : (Cond.selects "PalaceOfRoomsModel" ⟨"PalaceOfRoomsModel", "isGone", "(III)Z"⟩ ⟨"PalaceOfRoomsModel", "isGone", "(III)Z"⟩) ∈ lw_all := lw_g (lw_at lw_ms 44 rfl) rfl
theorem qs45 : (Cond.selects "PalaceOfRoomsModel" ⟨"PalaceOfRoomsModel", "allAt", "(I)I"⟩ ⟨"PalaceOfRoomsModel", "allAt", "(I)I"⟩) ∈ lw_all := lw_g (lw_at lw_ms 45 rfl) rfl
theorem qs46 : (Cond.selects "PalaceOfRoomsModel" ⟨"PalaceOfRoomsModel", "agrees", "(II)I"⟩ ⟨"PalaceOfRoomsModel", "agrees", "(II)I"⟩) ∈ lw_all := lw_g (lw_at lw_ms 46 rfl) rfl
theorem qs47 : (Cond.selects "PalaceOfRoomsModel" ⟨"PalaceOfRoomsModel", "partsMost", "(I)I"⟩ ⟨"PalaceOfRoomsModel", "partsMost", "(I)I"⟩) ∈ lw_all := lw_g (lw_at lw_ms 47 rfl) rfl
