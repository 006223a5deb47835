-- ===== PART A: goes FIRST, ahead of the names: the tables' words, and 'selects' of the private methods out of them =====
/-- a private method of a class that the tables say can be made, by its rows of tables_1 -/
def lw_okq (q : MethodName × Nat) : Prop := (q.1.cls ≠ "java/lang/invoke/MethodHandle" ∧ q.1.cls ≠ "java/lang/invoke/VarHandle") ∧ Cond.instantiable q.1.cls q.2 ∈ tables_1 ∧ Cond.privateMethod q.1 ∈ tables_1 ∧ Cond.instanceMethod q.1 ∈ tables_1
set_option maxRecDepth 100000
theorem lw_t1 {w : Cond} (h : w ∈ tables_1_1) : w ∈ tables_1 := List.mem_append_left _ h
theorem lw_t2 {w : Cond} (h : w ∈ tables_1_2) : w ∈ tables_1 := List.mem_append_right _ (List.mem_append_left _ h)
theorem lw_t3 {w : Cond} (h : w ∈ tables_1_3) : w ∈ tables_1 := List.mem_append_right _ (List.mem_append_right _ (List.mem_append_left _ h))
theorem lw_t4 {w : Cond} (h : w ∈ tables_1_4) : w ∈ tables_1 := List.mem_append_right _ (List.mem_append_right _ (List.mem_append_right _ (List.mem_append_left _ h)))
theorem lw_t5 {w : Cond} (h : w ∈ tables_1_5) : w ∈ tables_1 := List.mem_append_right _ (List.mem_append_right _ (List.mem_append_right _ (List.mem_append_right _ h)))
theorem lw_p0 : lw_okq (⟨"SleeveSlips$Reader", "next", "()V"⟩, 6) := ⟨⟨by decide +kernel, by decide +kernel⟩, lw_t2 (List.mem_of_getElem? (i := 84) rfl), lw_t2 (List.mem_of_getElem? (i := 115) rfl), lw_t2 (List.mem_of_getElem? (i := 116) rfl)⟩
theorem lw_p1 : lw_okq (⟨"SleeveSlips$Reader", "here", "()I"⟩, 6) := ⟨⟨by decide +kernel, by decide +kernel⟩, lw_t2 (List.mem_of_getElem? (i := 84) rfl), lw_t2 (List.mem_of_getElem? (i := 119) rfl), lw_t2 (List.mem_of_getElem? (i := 120) rfl)⟩
theorem lw_p2 : lw_okq (⟨"SleeveSlips$Reader", "isTold", "(Ljava/lang/String;)Z"⟩, 6) := ⟨⟨by decide +kernel, by decide +kernel⟩, lw_t2 (List.mem_of_getElem? (i := 84) rfl), lw_t2 (List.mem_of_getElem? (i := 126) rfl), lw_t2 (List.mem_of_getElem? (i := 127) rfl)⟩
theorem lw_p3 : lw_okq (⟨"SleeveSlips$Reader", "may", "(I)Z"⟩, 6) := ⟨⟨by decide +kernel, by decide +kernel⟩, lw_t2 (List.mem_of_getElem? (i := 84) rfl), lw_t2 (List.mem_of_getElem? (i := 181) rfl), lw_t2 (List.mem_of_getElem? (i := 182) rfl)⟩
theorem lw_p4 : lw_okq (⟨"SleeveSlips$Reader", "due", "(Z)I"⟩, 6) := ⟨⟨by decide +kernel, by decide +kernel⟩, lw_t2 (List.mem_of_getElem? (i := 84) rfl), lw_t2 (List.mem_of_getElem? (i := 185) rfl), lw_t2 (List.mem_of_getElem? (i := 186) rfl)⟩
theorem lw_p5 : lw_okq (⟨"java/lang/Throwable", "fillInStackTrace", "(I)Ljava/lang/Throwable;"⟩, 6) := ⟨⟨by decide +kernel, by decide +kernel⟩, lw_t2 (List.mem_of_getElem? (i := 225) rfl), lw_t2 (List.mem_of_getElem? (i := 223) rfl), lw_t2 (List.mem_of_getElem? (i := 224) rfl)⟩
theorem lw_p6 : lw_okq (⟨"SleeveSlips$Reader", "item", "(I)V"⟩, 6) := ⟨⟨by decide +kernel, by decide +kernel⟩, lw_t2 (List.mem_of_getElem? (i := 84) rfl), lw_t3 (List.mem_of_getElem? (i := 17) rfl), lw_t3 (List.mem_of_getElem? (i := 18) rfl)⟩
theorem lw_p7 : lw_okq (⟨"SleeveSlips$Reader", "number", "(II)I"⟩, 6) := ⟨⟨by decide +kernel, by decide +kernel⟩, lw_t2 (List.mem_of_getElem? (i := 84) rfl), lw_t3 (List.mem_of_getElem? (i := 21) rfl), lw_t3 (List.mem_of_getElem? (i := 22) rfl)⟩
theorem lw_p8 : lw_okq (⟨"SleeveSlips", "isPerson", "(I)Z"⟩, 13) := ⟨⟨by decide +kernel, by decide +kernel⟩, lw_t1 (List.mem_of_getElem? (i := 26) rfl), lw_t3 (List.mem_of_getElem? (i := 29) rfl), lw_t3 (List.mem_of_getElem? (i := 30) rfl)⟩
theorem lw_p9 : lw_okq (⟨"SleeveSlips", "isAsking", "(I)Z"⟩, 13) := ⟨⟨by decide +kernel, by decide +kernel⟩, lw_t1 (List.mem_of_getElem? (i := 26) rfl), lw_t3 (List.mem_of_getElem? (i := 37) rfl), lw_t3 (List.mem_of_getElem? (i := 38) rfl)⟩
theorem lw_p10 : lw_okq (⟨"SleeveSlips", "hasRoom", "(I)Z"⟩, 13) := ⟨⟨by decide +kernel, by decide +kernel⟩, lw_t1 (List.mem_of_getElem? (i := 26) rfl), lw_t3 (List.mem_of_getElem? (i := 57) rfl), lw_t3 (List.mem_of_getElem? (i := 58) rfl)⟩
theorem lw_p11 : lw_okq (⟨"SleeveSlips", "isPinned", "(I)Z"⟩, 13) := ⟨⟨by decide +kernel, by decide +kernel⟩, lw_t1 (List.mem_of_getElem? (i := 26) rfl), lw_t3 (List.mem_of_getElem? (i := 76) rfl), lw_t3 (List.mem_of_getElem? (i := 77) rfl)⟩
theorem lw_p12 : lw_okq (⟨"SleeveSlips", "works", "(I)I"⟩, 13) := ⟨⟨by decide +kernel, by decide +kernel⟩, lw_t1 (List.mem_of_getElem? (i := 26) rfl), lw_t3 (List.mem_of_getElem? (i := 108) rfl), lw_t3 (List.mem_of_getElem? (i := 109) rfl)⟩
theorem lw_p13 : lw_okq (⟨"SleeveSlips", "firstOf", "(LSleeveSlips$Sleeve;)I"⟩, 13) := ⟨⟨by decide +kernel, by decide +kernel⟩, lw_t1 (List.mem_of_getElem? (i := 26) rfl), lw_t3 (List.mem_of_getElem? (i := 112) rfl), lw_t3 (List.mem_of_getElem? (i := 113) rfl)⟩
theorem lw_p14 : lw_okq (⟨"SleeveSlips", "mayWork", "(I)Z"⟩, 13) := ⟨⟨by decide +kernel, by decide +kernel⟩, lw_t1 (List.mem_of_getElem? (i := 26) rfl), lw_t3 (List.mem_of_getElem? (i := 116) rfl), lw_t3 (List.mem_of_getElem? (i := 117) rfl)⟩
theorem lw_p15 : lw_okq (⟨"SleeveSlips", "bestFor", "(III)I"⟩, 13) := ⟨⟨by decide +kernel, by decide +kernel⟩, lw_t1 (List.mem_of_getElem? (i := 26) rfl), lw_t3 (List.mem_of_getElem? (i := 128) rfl), lw_t3 (List.mem_of_getElem? (i := 129) rfl)⟩
def lw_privs_1 : List (MethodName × Nat) := [(⟨"SleeveSlips$Reader", "next", "()V"⟩, 6), (⟨"SleeveSlips$Reader", "here", "()I"⟩, 6), (⟨"SleeveSlips$Reader", "isTold", "(Ljava/lang/String;)Z"⟩, 6), (⟨"SleeveSlips$Reader", "may", "(I)Z"⟩, 6), (⟨"SleeveSlips$Reader", "due", "(Z)I"⟩, 6), (⟨"java/lang/Throwable", "fillInStackTrace", "(I)Ljava/lang/Throwable;"⟩, 6), (⟨"SleeveSlips$Reader", "item", "(I)V"⟩, 6), (⟨"SleeveSlips$Reader", "number", "(II)I"⟩, 6), (⟨"SleeveSlips", "isPerson", "(I)Z"⟩, 13), (⟨"SleeveSlips", "isAsking", "(I)Z"⟩, 13), (⟨"SleeveSlips", "hasRoom", "(I)Z"⟩, 13), (⟨"SleeveSlips", "isPinned", "(I)Z"⟩, 13), (⟨"SleeveSlips", "works", "(I)I"⟩, 13), (⟨"SleeveSlips", "firstOf", "(LSleeveSlips$Sleeve;)I"⟩, 13), (⟨"SleeveSlips", "mayWork", "(I)Z"⟩, 13), (⟨"SleeveSlips", "bestFor", "(III)I"⟩, 13)]
theorem lw_r1 : ∀ q ∈ lw_privs_1, lw_okq q := List.forall_mem_cons.mpr ⟨lw_p0, List.forall_mem_cons.mpr ⟨lw_p1, List.forall_mem_cons.mpr ⟨lw_p2, List.forall_mem_cons.mpr ⟨lw_p3, List.forall_mem_cons.mpr ⟨lw_p4, List.forall_mem_cons.mpr ⟨lw_p5, List.forall_mem_cons.mpr ⟨lw_p6, List.forall_mem_cons.mpr ⟨lw_p7, List.forall_mem_cons.mpr ⟨lw_p8, List.forall_mem_cons.mpr ⟨lw_p9, List.forall_mem_cons.mpr ⟨lw_p10, List.forall_mem_cons.mpr ⟨lw_p11, List.forall_mem_cons.mpr ⟨lw_p12, List.forall_mem_cons.mpr ⟨lw_p13, List.forall_mem_cons.mpr ⟨lw_p14, List.forall_mem_cons.mpr ⟨lw_p15, fun _ h => absurd h List.not_mem_nil⟩⟩⟩⟩⟩⟩⟩⟩⟩⟩⟩⟩⟩⟩⟩⟩
theorem lw_p16 : lw_okq (⟨"SleeveSlips", "canKeep", "(III)Z"⟩, 13) := ⟨⟨by decide +kernel, by decide +kernel⟩, lw_t1 (List.mem_of_getElem? (i := 26) rfl), lw_t3 (List.mem_of_getElem? (i := 132) rfl), lw_t3 (List.mem_of_getElem? (i := 133) rfl)⟩
theorem lw_p17 : lw_okq (⟨"SleeveSlips", "nextDue", "(I)I"⟩, 13) := ⟨⟨by decide +kernel, by decide +kernel⟩, lw_t1 (List.mem_of_getElem? (i := 26) rfl), lw_t3 (List.mem_of_getElem? (i := 142) rfl), lw_t3 (List.mem_of_getElem? (i := 143) rfl)⟩
theorem lw_p18 : lw_okq (⟨"SleeveSlips", "allTenths", "()I"⟩, 13) := ⟨⟨by decide +kernel, by decide +kernel⟩, lw_t1 (List.mem_of_getElem? (i := 26) rfl), lw_t3 (List.mem_of_getElem? (i := 154) rfl), lw_t3 (List.mem_of_getElem? (i := 155) rfl)⟩
theorem lw_p19 : lw_okq (⟨"SleeveSlips", "mean", "(IIII)J"⟩, 13) := ⟨⟨by decide +kernel, by decide +kernel⟩, lw_t1 (List.mem_of_getElem? (i := 26) rfl), lw_t3 (List.mem_of_getElem? (i := 163) rfl), lw_t3 (List.mem_of_getElem? (i := 164) rfl)⟩
theorem lw_p20 : lw_okq (⟨"SleeveSlips", "taken", "(IIIII)J"⟩, 13) := ⟨⟨by decide +kernel, by decide +kernel⟩, lw_t1 (List.mem_of_getElem? (i := 26) rfl), lw_t3 (List.mem_of_getElem? (i := 167) rfl), lw_t3 (List.mem_of_getElem? (i := 168) rfl)⟩
theorem lw_p21 : lw_okq (⟨"SleeveSlips", "inOrder", "(I)I"⟩, 13) := ⟨⟨by decide +kernel, by decide +kernel⟩, lw_t1 (List.mem_of_getElem? (i := 26) rfl), lw_t3 (List.mem_of_getElem? (i := 189) rfl), lw_t3 (List.mem_of_getElem? (i := 190) rfl)⟩
theorem lw_p22 : lw_okq (⟨"SleeveSlips", "leftOn", "(I)I"⟩, 13) := ⟨⟨by decide +kernel, by decide +kernel⟩, lw_t1 (List.mem_of_getElem? (i := 26) rfl), lw_t3 (List.mem_of_getElem? (i := 205) rfl), lw_t3 (List.mem_of_getElem? (i := 206) rfl)⟩
theorem lw_p23 : lw_okq (⟨"SleeveSlipsModel", "isEnd", "()Z"⟩, 28) := ⟨⟨by decide +kernel, by decide +kernel⟩, lw_t4 (List.mem_of_getElem? (i := 34) rfl), lw_t4 (List.mem_of_getElem? (i := 144) rfl), lw_t4 (List.mem_of_getElem? (i := 145) rfl)⟩
theorem lw_p24 : lw_okq (⟨"SleeveSlipsModel", "takeItem", "()V"⟩, 28) := ⟨⟨by decide +kernel, by decide +kernel⟩, lw_t4 (List.mem_of_getElem? (i := 34) rfl), lw_t4 (List.mem_of_getElem? (i := 148) rfl), lw_t4 (List.mem_of_getElem? (i := 149) rfl)⟩
theorem lw_p25 : lw_okq (⟨"SleeveSlipsModel", "takeLetters", "()J"⟩, 28) := ⟨⟨by decide +kernel, by decide +kernel⟩, lw_t4 (List.mem_of_getElem? (i := 34) rfl), lw_t4 (List.mem_of_getElem? (i := 152) rfl), lw_t4 (List.mem_of_getElem? (i := 153) rfl)⟩
theorem lw_p26 : lw_okq (⟨"SleeveSlipsModel", "takeNumber", "(III)I"⟩, 28) := ⟨⟨by decide +kernel, by decide +kernel⟩, lw_t4 (List.mem_of_getElem? (i := 34) rfl), lw_t4 (List.mem_of_getElem? (i := 161) rfl), lw_t4 (List.mem_of_getElem? (i := 162) rfl)⟩
theorem lw_p27 : lw_okq (⟨"SleeveSlipsModel", "isOne", "(I)Z"⟩, 28) := ⟨⟨by decide +kernel, by decide +kernel⟩, lw_t4 (List.mem_of_getElem? (i := 34) rfl), lw_t4 (List.mem_of_getElem? (i := 176) rfl), lw_t4 (List.mem_of_getElem? (i := 177) rfl)⟩
theorem lw_p28 : lw_okq (⟨"SleeveSlipsModel", "isAsking", "(I)Z"⟩, 28) := ⟨⟨by decide +kernel, by decide +kernel⟩, lw_t4 (List.mem_of_getElem? (i := 34) rfl), lw_t4 (List.mem_of_getElem? (i := 185) rfl), lw_t4 (List.mem_of_getElem? (i := 186) rfl)⟩
theorem lw_p29 : lw_okq (⟨"SleeveSlipsModel", "sleeveOf", "(I)I"⟩, 28) := ⟨⟨by decide +kernel, by decide +kernel⟩, lw_t4 (List.mem_of_getElem? (i := 34) rfl), lw_t4 (List.mem_of_getElem? (i := 190) rfl), lw_t4 (List.mem_of_getElem? (i := 191) rfl)⟩
theorem lw_p30 : lw_okq (⟨"SleeveSlipsModel", "insert", "(III)V"⟩, 28) := ⟨⟨by decide +kernel, by decide +kernel⟩, lw_t4 (List.mem_of_getElem? (i := 34) rfl), lw_t4 (List.mem_of_getElem? (i := 202) rfl), lw_t4 (List.mem_of_getElem? (i := 203) rfl)⟩
theorem lw_p31 : lw_okq (⟨"SleeveSlipsModel", "minds", "(IIII)V"⟩, 28) := ⟨⟨by decide +kernel, by decide +kernel⟩, lw_t4 (List.mem_of_getElem? (i := 34) rfl), lw_t4 (List.mem_of_getElem? (i := 206) rfl), lw_t4 (List.mem_of_getElem? (i := 207) rfl)⟩
def lw_privs_2 : List (MethodName × Nat) := [(⟨"SleeveSlips", "canKeep", "(III)Z"⟩, 13), (⟨"SleeveSlips", "nextDue", "(I)I"⟩, 13), (⟨"SleeveSlips", "allTenths", "()I"⟩, 13), (⟨"SleeveSlips", "mean", "(IIII)J"⟩, 13), (⟨"SleeveSlips", "taken", "(IIIII)J"⟩, 13), (⟨"SleeveSlips", "inOrder", "(I)I"⟩, 13), (⟨"SleeveSlips", "leftOn", "(I)I"⟩, 13), (⟨"SleeveSlipsModel", "isEnd", "()Z"⟩, 28), (⟨"SleeveSlipsModel", "takeItem", "()V"⟩, 28), (⟨"SleeveSlipsModel", "takeLetters", "()J"⟩, 28), (⟨"SleeveSlipsModel", "takeNumber", "(III)I"⟩, 28), (⟨"SleeveSlipsModel", "isOne", "(I)Z"⟩, 28), (⟨"SleeveSlipsModel", "isAsking", "(I)Z"⟩, 28), (⟨"SleeveSlipsModel", "sleeveOf", "(I)I"⟩, 28), (⟨"SleeveSlipsModel", "insert", "(III)V"⟩, 28), (⟨"SleeveSlipsModel", "minds", "(IIII)V"⟩, 28)]
theorem lw_r2 : ∀ q ∈ lw_privs_2, lw_okq q := List.forall_mem_cons.mpr ⟨lw_p16, List.forall_mem_cons.mpr ⟨lw_p17, List.forall_mem_cons.mpr ⟨lw_p18, List.forall_mem_cons.mpr ⟨lw_p19, List.forall_mem_cons.mpr ⟨lw_p20, List.forall_mem_cons.mpr ⟨lw_p21, List.forall_mem_cons.mpr ⟨lw_p22, List.forall_mem_cons.mpr ⟨lw_p23, List.forall_mem_cons.mpr ⟨lw_p24, List.forall_mem_cons.mpr ⟨lw_p25, List.forall_mem_cons.mpr ⟨lw_p26, List.forall_mem_cons.mpr ⟨lw_p27, List.forall_mem_cons.mpr ⟨lw_p28, List.forall_mem_cons.mpr ⟨lw_p29, List.forall_mem_cons.mpr ⟨lw_p30, List.forall_mem_cons.mpr ⟨lw_p31, fun _ h => absurd h List.not_mem_nil⟩⟩⟩⟩⟩⟩⟩⟩⟩⟩⟩⟩⟩⟩⟩⟩
theorem lw_p32 : lw_okq (⟨"SleeveSlipsModel", "placeOf", "(II)I"⟩, 28) := ⟨⟨by decide +kernel, by decide +kernel⟩, lw_t4 (List.mem_of_getElem? (i := 34) rfl), lw_t4 (List.mem_of_getElem? (i := 214) rfl), lw_t4 (List.mem_of_getElem? (i := 215) rfl)⟩
theorem lw_p33 : lw_okq (⟨"SleeveSlipsModel", "remove", "(II)V"⟩, 28) := ⟨⟨by decide +kernel, by decide +kernel⟩, lw_t4 (List.mem_of_getElem? (i := 34) rfl), lw_t4 (List.mem_of_getElem? (i := 218) rfl), lw_t4 (List.mem_of_getElem? (i := 219) rfl)⟩
theorem lw_p34 : lw_okq (⟨"SleeveSlipsModel", "firstFree", "(I)I"⟩, 28) := ⟨⟨by decide +kernel, by decide +kernel⟩, lw_t4 (List.mem_of_getElem? (i := 34) rfl), lw_t4 (List.mem_of_getElem? (i := 238) rfl), lw_t4 (List.mem_of_getElem? (i := 239) rfl)⟩
theorem lw_p35 : lw_okq (⟨"SleeveSlipsModel", "isFree", "(I)Z"⟩, 28) := ⟨⟨by decide +kernel, by decide +kernel⟩, lw_t4 (List.mem_of_getElem? (i := 34) rfl), lw_t5 (List.mem_of_getElem? (i := 2) rfl), lw_t5 (List.mem_of_getElem? (i := 3) rfl)⟩
theorem lw_p36 : lw_okq (⟨"SleeveSlipsModel", "slips", "()I"⟩, 28) := ⟨⟨by decide +kernel, by decide +kernel⟩, lw_t4 (List.mem_of_getElem? (i := 34) rfl), lw_t5 (List.mem_of_getElem? (i := 10) rfl), lw_t5 (List.mem_of_getElem? (i := 11) rfl)⟩
theorem lw_p37 : lw_okq (⟨"SleeveSlipsModel", "bestOf", "(III)I"⟩, 28) := ⟨⟨by decide +kernel, by decide +kernel⟩, lw_t4 (List.mem_of_getElem? (i := 34) rfl), lw_t5 (List.mem_of_getElem? (i := 18) rfl), lw_t5 (List.mem_of_getElem? (i := 19) rfl)⟩
theorem lw_p38 : lw_okq (⟨"SleeveSlipsModel", "worthOf", "(I)I"⟩, 28) := ⟨⟨by decide +kernel, by decide +kernel⟩, lw_t4 (List.mem_of_getElem? (i := 34) rfl), lw_t5 (List.mem_of_getElem? (i := 22) rfl), lw_t5 (List.mem_of_getElem? (i := 23) rfl)⟩
theorem lw_p39 : lw_okq (⟨"SleeveSlipsModel", "canKeep", "(III)Z"⟩, 28) := ⟨⟨by decide +kernel, by decide +kernel⟩, lw_t4 (List.mem_of_getElem? (i := 34) rfl), lw_t5 (List.mem_of_getElem? (i := 29) rfl), lw_t5 (List.mem_of_getElem? (i := 30) rfl)⟩
theorem lw_p40 : lw_okq (⟨"SleeveSlipsModel", "allTenths", "()I"⟩, 28) := ⟨⟨by decide +kernel, by decide +kernel⟩, lw_t4 (List.mem_of_getElem? (i := 34) rfl), lw_t5 (List.mem_of_getElem? (i := 47) rfl), lw_t5 (List.mem_of_getElem? (i := 48) rfl)⟩
theorem lw_p41 : lw_okq (⟨"SleeveSlipsModel", "findBrings", "(II)V"⟩, 28) := ⟨⟨by decide +kernel, by decide +kernel⟩, lw_t4 (List.mem_of_getElem? (i := 34) rfl), lw_t5 (List.mem_of_getElem? (i := 57) rfl), lw_t5 (List.mem_of_getElem? (i := 58) rfl)⟩
theorem lw_p42 : lw_okq (⟨"SleeveSlipsModel", "behind", "(II)I"⟩, 28) := ⟨⟨by decide +kernel, by decide +kernel⟩, lw_t4 (List.mem_of_getElem? (i := 34) rfl), lw_t5 (List.mem_of_getElem? (i := 61) rfl), lw_t5 (List.mem_of_getElem? (i := 62) rfl)⟩
theorem lw_p43 : lw_okq (⟨"SleeveSlipsModel", "allAskings", "()I"⟩, 28) := ⟨⟨by decide +kernel, by decide +kernel⟩, lw_t4 (List.mem_of_getElem? (i := 34) rfl), lw_t5 (List.mem_of_getElem? (i := 74) rfl), lw_t5 (List.mem_of_getElem? (i := 75) rfl)⟩
theorem lw_p44 : lw_okq (⟨"SleeveSlipsModel", "leftOf", "(I)I"⟩, 28) := ⟨⟨by decide +kernel, by decide +kernel⟩, lw_t4 (List.mem_of_getElem? (i := 34) rfl), lw_t5 (List.mem_of_getElem? (i := 78) rfl), lw_t5 (List.mem_of_getElem? (i := 79) rfl)⟩
theorem lw_p45 : lw_okq (⟨"SleeveSlipsModel", "leftTo", "(I)I"⟩, 28) := ⟨⟨by decide +kernel, by decide +kernel⟩, lw_t4 (List.mem_of_getElem? (i := 34) rfl), lw_t5 (List.mem_of_getElem? (i := 96) rfl), lw_t5 (List.mem_of_getElem? (i := 97) rfl)⟩
theorem lw_p46 : lw_okq (⟨"SleeveSlipsModel", "copy", "(II)V"⟩, 28) := ⟨⟨by decide +kernel, by decide +kernel⟩, lw_t4 (List.mem_of_getElem? (i := 34) rfl), lw_t5 (List.mem_of_getElem? (i := 113) rfl), lw_t5 (List.mem_of_getElem? (i := 114) rfl)⟩
def lw_privs_3 : List (MethodName × Nat) := [(⟨"SleeveSlipsModel", "placeOf", "(II)I"⟩, 28), (⟨"SleeveSlipsModel", "remove", "(II)V"⟩, 28), (⟨"SleeveSlipsModel", "firstFree", "(I)I"⟩, 28), (⟨"SleeveSlipsModel", "isFree", "(I)Z"⟩, 28), (⟨"SleeveSlipsModel", "slips", "()I"⟩, 28), (⟨"SleeveSlipsModel", "bestOf", "(III)I"⟩, 28), (⟨"SleeveSlipsModel", "worthOf", "(I)I"⟩, 28), (⟨"SleeveSlipsModel", "canKeep", "(III)Z"⟩, 28), (⟨"SleeveSlipsModel", "allTenths", "()I"⟩, 28), (⟨"SleeveSlipsModel", "findBrings", "(II)V"⟩, 28), (⟨"SleeveSlipsModel", "behind", "(II)I"⟩, 28), (⟨"SleeveSlipsModel", "allAskings", "()I"⟩, 28), (⟨"SleeveSlipsModel", "leftOf", "(I)I"⟩, 28), (⟨"SleeveSlipsModel", "leftTo", "(I)I"⟩, 28), (⟨"SleeveSlipsModel", "copy", "(II)V"⟩, 28)]
theorem lw_r3 : ∀ q ∈ lw_privs_3, lw_okq q := List.forall_mem_cons.mpr ⟨lw_p32, List.forall_mem_cons.mpr ⟨lw_p33, List.forall_mem_cons.mpr ⟨lw_p34, List.forall_mem_cons.mpr ⟨lw_p35, List.forall_mem_cons.mpr ⟨lw_p36, List.forall_mem_cons.mpr ⟨lw_p37, List.forall_mem_cons.mpr ⟨lw_p38, List.forall_mem_cons.mpr ⟨lw_p39, List.forall_mem_cons.mpr ⟨lw_p40, List.forall_mem_cons.mpr ⟨lw_p41, List.forall_mem_cons.mpr ⟨lw_p42, List.forall_mem_cons.mpr ⟨lw_p43, List.forall_mem_cons.mpr ⟨lw_p44, List.forall_mem_cons.mpr ⟨lw_p45, List.forall_mem_cons.mpr ⟨lw_p46, fun _ h => absurd h List.not_mem_nil⟩⟩⟩⟩⟩⟩⟩⟩⟩⟩⟩⟩⟩⟩⟩
def lw_privs : List (MethodName × Nat) := lw_privs_1 ++ (lw_privs_2 ++ (lw_privs_3))
def lw_tbl : List Cond := k2_sels lw_privs ++ tables_1
theorem lw_privs_ok : ∀ q ∈ lw_privs, lw_okq q := by
  show ∀ q ∈ lw_privs_1 ++ (lw_privs_2 ++ (lw_privs_3)), lw_okq q
  exact List.forall_mem_append.mpr ⟨lw_r1, List.forall_mem_append.mpr ⟨lw_r2, lw_r3⟩⟩
-- ===== ONE list of words for every method: the tables' words that hold all through a run =====
def lw_all : List Cond := lw_tbl.filter goodWord
/-- a word of the tables by its place: claim/WORDS.tsv -/
theorem lw_w {w : Cond} (i : Nat) (h : lw_tbl[i]? = some w) (g : goodWord w = true) : w ∈ lw_all := List.mem_filter.mpr ⟨List.mem_of_getElem? h, g⟩
theorem lw_all_tbl {w : Cond} (h : w ∈ lw_all) : w ∈ lw_tbl := (List.mem_filter.mp h).1
theorem lw_self : GoodIn lw_all lw_all := fun w h => ⟨h, good_of_word (List.mem_filter.mp h).2⟩
/-- a class's field words, by their places -/
theorem lw_in (ws : List Cond) (ps : List Nat) (hp : ws = ps.filterMap (fun i => lw_tbl[i]?)) (hg : ws.all goodWord = true) : ∀ w ∈ ws, w ∈ lw_all := by
  intro w h
  have h1 := List.all_eq_true.mp hg w h
  rw [hp] at h
  obtain ⟨i, -, hi⟩ := List.mem_filterMap.mp h
  exact lw_w i hi h1
/-- the words of a contract for the method y with code b, L locals, answer r -/
abbrev ws_ (y : MethodName) (b : ByteArray) (L : Nat) (r : Option FieldType) : List Cond := Cond.code y b L r :: lw_all
theorem lw_meth {y : MethodName} {b : ByteArray} {L : Nat} {r : Option FieldType} (h : Cond.code y b L r ∈ lw_all) : GoodIn lw_all (ws_ y b L r) := by
  intro w hw
  rcases List.mem_cons.mp hw with e | e
  · rw [e]
    exact lw_self _ h
  · exact lw_self _ e
theorem lw_app {a c : List Cond} (ha : ∀ w ∈ a, w ∈ lw_all) (hc : GoodIn lw_all c) : GoodIn lw_all (a ++ c) := by
  intro w hw
  rcases List.mem_append.mp hw with e | e
  · exact lw_self w (ha w e)
  · exact hc w e
/-- what a call through an object asks: cwV n hts (lw_V ..) -/
theorem lw_V {own : String} {idx : Nat} {C : String} {y : MethodName} {b : ByteArray} {L : Nat} {r : Option FieldType} (h1 : Cond.methodLink own idx y ∈ lw_all) (h2 : Cond.instanceMethod y ∈ lw_all) (h3 : Cond.selects C y y ∈ lw_all) (h4 : Cond.initialized C ∈ lw_all) (h5 : Cond.code y b L r ∈ lw_all) : GoodIn lw_all (wsV own idx C y (ws_ y b L r)) := by
  refine lw_app ?_ (lw_meth h5)
  intro w hw
  simp only [List.mem_cons, List.not_mem_nil, or_false] at hw
  rcases hw with e | e | e | e
  · rw [e]; exact h1
  · rw [e]; exact h2
  · rw [e]; exact h3
  · rw [e]; exact h4
/-- what a static call asks: va_cwS n hts (lw_S ..) -/
theorem lw_S {own : String} {idx : Nat} {y : MethodName} {b : ByteArray} {L : Nat} {r : Option FieldType} (h1 : Cond.methodLink own idx y ∈ lw_all) (h2 : Cond.static y ∈ lw_all) (h3 : Cond.initialized y.cls ∈ lw_all) (h4 : Cond.code y b L r ∈ lw_all) : GoodIn lw_all (va_wsS own idx y (ws_ y b L r)) := by
  refine lw_app ?_ (lw_meth h4)
  intro w hw
  simp only [List.mem_cons, List.not_mem_nil, or_false] at hw
  rcases hw with e | e | e
  · rw [e]; exact h1
  · rw [e]; exact h2
  · rw [e]; exact h3
/-- the words of a contract for a method WITH HANDLERS (hh: its table) -/
abbrev wsW_ (y : MethodName) (b : ByteArray) (L : Nat) (r : Option FieldType) (hh : List (Nat × Nat × Nat × Nat)) : List Cond := Cond.codeWith y b L r hh :: lw_all
theorem lw_methW {y : MethodName} {b : ByteArray} {L : Nat} {r : Option FieldType} {hh : List (Nat × Nat × Nat × Nat)} (h : Cond.codeWith y b L r hh ∈ lw_all) : GoodIn lw_all (wsW_ y b L r hh) := by
  intro w hw
  rcases List.mem_cons.mp hw with e | e
  · rw [e]
    exact lw_self _ h
  · exact lw_self _ e
/-- any list of words by their places (lw_in), good -/
theorem lw_good {ws : List Cond} (h : ∀ w ∈ ws, w ∈ lw_all) : GoodIn lw_all ws := fun w hw => lw_self w (h w hw)
/-- what a call of a method with handlers asks: vx_cwVW n hts (lw_VW ..), vx_cwSW n hts (lw_SW ..) -/
theorem lw_VW {own : String} {idx : Nat} {C : String} {y : MethodName} {b : ByteArray} {L : Nat} {r : Option FieldType} {hh : List (Nat × Nat × Nat × Nat)} (h1 : Cond.methodLink own idx y ∈ lw_all) (h2 : Cond.instanceMethod y ∈ lw_all) (h3 : Cond.selects C y y ∈ lw_all) (h4 : Cond.initialized C ∈ lw_all) (h5 : Cond.codeWith y b L r hh ∈ lw_all) : GoodIn lw_all (wsV own idx C y (wsW_ y b L r hh)) := by
  refine lw_app ?_ (lw_methW h5)
  intro w hw
  simp only [List.mem_cons, List.not_mem_nil, or_false] at hw
  rcases hw with e | e | e | e
  · rw [e]; exact h1
  · rw [e]; exact h2
  · rw [e]; exact h3
  · rw [e]; exact h4
theorem lw_SW {own : String} {idx : Nat} {y : MethodName} {b : ByteArray} {L : Nat} {r : Option FieldType} {hh : List (Nat × Nat × Nat × Nat)} (h1 : Cond.methodLink own idx y ∈ lw_all) (h2 : Cond.static y ∈ lw_all) (h3 : Cond.initialized y.cls ∈ lw_all) (h4 : Cond.codeWith y b L r hh ∈ lw_all) : GoodIn lw_all (va_wsS own idx y (wsW_ y b L r hh)) := by
  refine lw_app ?_ (lw_methW h4)
  intro w hw
  simp only [List.mem_cons, List.not_mem_nil, or_false] at hw
  rcases hw with e | e | e
  · rw [e]; exact h1
  · rw [e]; exact h2
  · rw [e]; exact h3
/-- a word by its place in its run of the tables -/
theorem lw_at {r : List Cond} (hr : ∀ w ∈ r, w ∈ lw_tbl) {w : Cond} (i : Nat) (h : r[i]? = some w) : w ∈ lw_tbl := hr w (List.mem_of_getElem? h)
theorem lw_g {w : Cond} (h : w ∈ lw_tbl) (g : goodWord w = true) : w ∈ lw_all := List.mem_filter.mpr ⟨h, g⟩
theorem lw_ms : ∀ w ∈ k2_sels lw_privs, w ∈ lw_tbl := fun w h => show w ∈ k2_sels lw_privs ++ tables_1 from List.mem_append_left _ h
theorem lw_m1 : ∀ w ∈ tables_1_1, w ∈ lw_tbl := fun w h => show w ∈ k2_sels lw_privs ++ tables_1 from List.mem_append_right (k2_sels lw_privs) (show w ∈ tables_1 from List.mem_append_left _ h)
theorem lw_m2 : ∀ w ∈ tables_1_2, w ∈ lw_tbl := fun w h => show w ∈ k2_sels lw_privs ++ tables_1 from List.mem_append_right (k2_sels lw_privs) (show w ∈ tables_1 from List.mem_append_right _ (List.mem_append_left _ h))
theorem lw_m3 : ∀ w ∈ tables_1_3, w ∈ lw_tbl := fun w h => show w ∈ k2_sels lw_privs ++ tables_1 from List.mem_append_right (k2_sels lw_privs) (show w ∈ tables_1 from List.mem_append_right _ (List.mem_append_right _ (List.mem_append_left _ h)))
theorem lw_m4 : ∀ w ∈ tables_1_4, w ∈ lw_tbl := fun w h => show w ∈ k2_sels lw_privs ++ tables_1 from List.mem_append_right (k2_sels lw_privs) (show w ∈ tables_1 from List.mem_append_right _ (List.mem_append_right _ (List.mem_append_right _ (List.mem_append_left _ h))))
theorem lw_m5 : ∀ w ∈ tables_1_5, w ∈ lw_tbl := fun w h => show w ∈ k2_sels lw_privs ++ tables_1 from List.mem_append_right (k2_sels lw_privs) (show w ∈ tables_1 from List.mem_append_right _ (List.mem_append_right _ (List.mem_append_right _ (List.mem_append_right _ h))))
theorem qs0 : (Cond.selects "SleeveSlips$Reader" ⟨"SleeveSlips$Reader", "next", "()V"⟩ ⟨"SleeveSlips$Reader", "next", "()V"⟩) ∈ lw_all := lw_g (lw_at lw_ms 0 rfl) rfl
theorem qs1 : (Cond.selects "SleeveSlips$Reader" ⟨"SleeveSlips$Reader", "here", "()I"⟩ ⟨"SleeveSlips$Reader", "here", "()I"⟩) ∈ lw_all := lw_g (lw_at lw_ms 1 rfl) rfl
theorem qs2 : (Cond.selects "SleeveSlips$Reader" ⟨"SleeveSlips$Reader", "isTold", "(Ljava/lang/String;)Z"⟩ ⟨"SleeveSlips$Reader", "isTold", "(Ljava/lang/String;)Z"⟩) ∈ lw_all := lw_g (lw_at lw_ms 2 rfl) rfl
theorem qs3 : (Cond.selects "SleeveSlips$Reader" ⟨"SleeveSlips$Reader", "may", "(I)Z"⟩ ⟨"SleeveSlips$Reader", "may", "(I)Z"⟩) ∈ lw_all := lw_g (lw_at lw_ms 3 rfl) rfl
theorem qs4 : (Cond.selects "SleeveSlips$Reader" ⟨"SleeveSlips$Reader", "due", "(Z)I"⟩ ⟨"SleeveSlips$Reader", "due", "(Z)I"⟩) ∈ lw_all := lw_g (lw_at lw_ms 4 rfl) rfl
theorem qs5 : (Cond.selects "java/lang/Throwable" ⟨"java/lang/Throwable", "fillInStackTrace", "(I)Ljava/lang/Throwable;"⟩ ⟨"java/lang/Throwable", "fillInStackTrace", "(I)Ljava/lang/Throwable;"⟩) ∈ lw_all := lw_g (lw_at lw_ms 5 rfl) rfl
theorem qs6 : (Cond.selects "SleeveSlips$Reader" ⟨"SleeveSlips$Reader", "item", "(I)V"⟩ ⟨"SleeveSlips$Reader", "item", "(I)V"⟩) ∈ lw_all := lw_g (lw_at lw_ms 6 rfl) rfl
theorem qs7 : (Cond.selects "SleeveSlips$Reader" ⟨"SleeveSlips$Reader", "number", "(II)I"⟩ ⟨"SleeveSlips$Reader", "number", "(II)I"⟩) ∈ lw_all := lw_g (lw_at lw_ms 7 rfl) rfl
theorem qs8 : (Cond.selects "SleeveSlips" ⟨"SleeveSlips", "isPerson", "(I)Z"⟩ ⟨"SleeveSlips", "isPerson", "(I)Z"⟩) ∈ lw_all := lw_g (lw_at lw_ms 8 rfl) rfl
theorem qs9 : (Cond.selects "SleeveSlips" ⟨"SleeveSlips", "isAsking", "(I)Z"⟩ ⟨"SleeveSlips", "isAsking", "(I)Z"⟩) ∈ lw_all := lw_g (lw_at lw_ms 9 rfl) rfl
theorem qs10 : (Cond.selects "SleeveSlips" ⟨"SleeveSlips", "hasRoom", "(I)Z"⟩ ⟨"SleeveSlips", "hasRoom", "(I)Z"⟩) ∈ lw_all := lw_g (lw_at lw_ms 10 rfl) rfl
theorem qs11 : (Cond.selects "SleeveSlips" ⟨"SleeveSlips", "isPinned", "(I)Z"⟩ ⟨"SleeveSlips", "isPinned", "(I)Z"⟩) ∈ lw_all := lw_g (lw_at lw_ms 11 rfl) rfl
theorem qs12 : (Cond.selects "SleeveSlips" ⟨"SleeveSlips", "works", "(I)I"⟩ ⟨"SleeveSlips", "works", "(I)I"⟩) ∈ lw_all := lw_g (lw_at lw_ms 12 rfl) rfl
theorem qs13 : (Cond.selects "SleeveSlips" ⟨"SleeveSlips", "firstOf", "(LSleeveSlips$Sleeve;)I"⟩ ⟨"SleeveSlips", "firstOf", "(LSleeveSlips$Sleeve;)I"⟩) ∈ lw_all := lw_g (lw_at lw_ms 13 rfl) rfl
theorem qs14 : (Cond.selects "SleeveSlips" ⟨"SleeveSlips", "mayWork", "(I)Z"⟩ ⟨"SleeveSlips", "mayWork", "(I)Z"⟩) ∈ lw_all := lw_g (lw_at lw_ms 14 rfl) rfl
theorem qs15 : (Cond.selects "SleeveSlips" ⟨"SleeveSlips", "bestFor", "(III)I"⟩ ⟨"SleeveSlips", "bestFor", "(III)I"⟩) ∈ lw_all := lw_g (lw_at lw_ms 15 rfl) rfl
theorem qs16 : (Cond.selects "SleeveSlips" ⟨"SleeveSlips", "canKeep", "(III)Z"⟩ ⟨"SleeveSlips", "canKeep", "(III)Z"⟩) ∈ lw_all := lw_g (lw_at lw_ms 16 rfl) rfl
theorem qs17 : (Cond.selects "SleeveSlips" ⟨"SleeveSlips", "nextDue", "(I)I"⟩ ⟨"SleeveSlips", "nextDue", "(I)I"⟩) ∈ lw_all := lw_g (lw_at lw_ms 17 rfl) rfl
theorem qs18 : (Cond.selects "SleeveSlips" ⟨"SleeveSlips", "allTenths", "()I"⟩ ⟨"SleeveSlips", "allTenths", "()I"⟩) ∈ lw_all := lw_g (lw_at lw_ms 18 rfl) rfl
theorem qs19 : (Cond.selects "SleeveSlips" ⟨"SleeveSlips", "mean", "(IIII)J"⟩ ⟨"SleeveSlips", "mean", "(IIII)J"⟩) ∈ lw_all := lw_g (lw_at lw_ms 19 rfl) rfl
theorem qs20 : (Cond.selects "SleeveSlips" ⟨"SleeveSlips", "taken", "(IIIII)J"⟩ ⟨"SleeveSlips", "taken", "(IIIII)J"⟩) ∈ lw_all := lw_g (lw_at lw_ms 20 rfl) rfl
theorem qs21 : (Cond.selects "SleeveSlips" ⟨"SleeveSlips", "inOrder", "(I)I"⟩ ⟨"SleeveSlips", "inOrder", "(I)I"⟩) ∈ lw_all := lw_g (lw_at lw_ms 21 rfl) rfl
theorem qs22 : (Cond.selects "SleeveSlips" ⟨"SleeveSlips", "leftOn", "(I)I"⟩ ⟨"SleeveSlips", "leftOn", "(I)I"⟩) ∈ lw_all := lw_g (lw_at lw_ms 22 rfl) rfl
theorem qs23 : (Cond.selects "SleeveSlipsModel" ⟨"SleeveSlipsModel", "isEnd", "()Z"⟩ ⟨"SleeveSlipsModel", "isEnd", "()Z"⟩) ∈ lw_all := lw_g (lw_at lw_ms 23 rfl) rfl
theorem qs24 : (Cond.selects "SleeveSlipsModel" ⟨"SleeveSlipsModel", "takeItem", "()V"⟩ ⟨"SleeveSlipsModel", "takeItem", "()V"⟩) ∈ lw_all := lw_g (lw_at lw_ms 24 rfl) rfl
theorem qs25 : (Cond.selects "SleeveSlipsModel" ⟨"SleeveSlipsModel", "takeLetters", "()J"⟩ ⟨"SleeveSlipsModel", "takeLetters", "()J"⟩) ∈ lw_all := lw_g (lw_at lw_ms 25 rfl) rfl
theorem qs26 : (Cond.selects "SleeveSlipsModel" ⟨"SleeveSlipsModel", "takeNumber", "(III)I"⟩ ⟨"SleeveSlipsModel", "takeNumber", "(III)I"⟩) ∈ lw_all := lw_g (lw_at lw_ms 26 rfl) rfl
theorem qs27 : (Cond.selects "SleeveSlipsModel" ⟨"SleeveSlipsModel", "isOne", "(I)Z"⟩ ⟨"SleeveSlipsModel", "isOne", "(I)Z"⟩) ∈ lw_all := lw_g (lw_at lw_ms 27 rfl) rfl
theorem qs28 : (Cond.selects "SleeveSlipsModel" ⟨"SleeveSlipsModel", "isAsking", "(I)Z"⟩ ⟨"SleeveSlipsModel", "isAsking", "(I)Z"⟩) ∈ lw_all := lw_g (lw_at lw_ms 28 rfl) rfl
theorem qs29 : (Cond.selects "SleeveSlipsModel" ⟨"SleeveSlipsModel", "sleeveOf", "(I)I"⟩ ⟨"SleeveSlipsModel", "sleeveOf", "(I)I"⟩) ∈ lw_all := lw_g (lw_at lw_ms 29 rfl) rfl
theorem qs30 : (Cond.selects "SleeveSlipsModel" ⟨"SleeveSlipsModel", "insert", "(III)V"⟩ ⟨"SleeveSlipsModel", "insert", "(III)V"⟩) ∈ lw_all := lw_g (lw_at lw_ms 30 rfl) rfl
theorem qs31 : (Cond.selects "SleeveSlipsModel" ⟨"SleeveSlipsModel", "minds", "(IIII)V"⟩ ⟨"SleeveSlipsModel", "minds", "(IIII)V"⟩) ∈ lw_all := lw_g (lw_at lw_ms 31 rfl) rfl
theorem qs32 : (Cond.selects "SleeveSlipsModel" ⟨"SleeveSlipsModel", "placeOf", "(II)I"⟩ ⟨"SleeveSlipsModel", "placeOf", "(II)I"⟩) ∈ lw_all := lw_g (lw_at lw_ms 32 rfl) rfl
theorem qs33 : (Cond.selects "SleeveSlipsModel" ⟨"SleeveSlipsModel", "remove", "(II)V"⟩ ⟨"SleeveSlipsModel", "remove", "(II)V"⟩) ∈ lw_all := lw_g (lw_at lw_ms 33 rfl) rfl
theorem qs34 : (Cond.selects "SleeveSlipsModel" ⟨"SleeveSlipsModel", "firstFree", "(I)I"⟩ ⟨"SleeveSlipsModel", "firstFree", "(I)I"⟩) ∈ lw_all := lw_g (lw_at lw_ms 34 rfl) rfl
theorem qs35 : (Cond.selects "SleeveSlipsModel" ⟨"SleeveSlipsModel", "isFree", "(I)Z"⟩ ⟨"SleeveSlipsModel", "isFree", "(I)Z"⟩) ∈ lw_all := lw_g (lw_at lw_ms 35 rfl) rfl
theorem qs36 : (Cond.selects "SleeveSlipsModel" ⟨"SleeveSlipsModel", "slips", "()I"⟩ ⟨"SleeveSlipsModel", "slips", "()I"⟩) ∈ lw_all := lw_g (lw_at lw_ms 36 rfl) rfl
theorem qs37 : (Cond.selects "SleeveSlipsModel" ⟨"SleeveSlipsModel", "bestOf", "(III)I"⟩ ⟨"SleeveSlipsModel", "bestOf", "(III)I"⟩) ∈ lw_all := lw_g (lw_at lw_ms 37 rfl) rfl
theorem qs38 : (Cond.selects "SleeveSlipsModel" ⟨"SleeveSlipsModel", "worthOf", "(I)I"⟩ ⟨"SleeveSlipsModel", "worthOf", "(I)I"⟩) ∈ lw_all := lw_g (lw_at lw_ms 38 rfl) rfl
theorem qs39 : (Cond.selects "SleeveSlipsModel" ⟨"SleeveSlipsModel", "canKeep", "(III)Z"⟩ ⟨"SleeveSlipsModel", "canKeep", "(III)Z"⟩) ∈ lw_all := lw_g (lw_at lw_ms 39 rfl) rfl
theorem qs40 : (Cond.selects "SleeveSlipsModel" ⟨"SleeveSlipsModel", "allTenths", "()I"⟩ ⟨"SleeveSlipsModel", "allTenths", "()I"⟩) ∈ lw_all := lw_g (lw_at lw_ms 40 rfl) rfl
theorem qs41 : (Cond.selects "SleeveSlipsModel" ⟨"SleeveSlipsModel", "findBrings", "(II)V"⟩ ⟨"SleeveSlipsModel", "findBrings", "(II)V"⟩) ∈ lw_all := lw_g (lw_at lw_ms 41 rfl) rfl
theorem qs42 : (Cond.selects "SleeveSlipsModel" ⟨"SleeveSlipsModel", "behind", "(II)I"⟩ ⟨"SleeveSlipsModel", "behind", "(II)I"⟩) ∈ lw_all := lw_g (lw_at lw_ms 42 rfl) rfl
theorem qs43 : (Cond.selects "SleeveSlipsModel" ⟨"SleeveSlipsModel", "allAskings", "()I"⟩ ⟨"SleeveSlipsModel", "allAskings", "()I"⟩) ∈ lw_all := lw_g (lw_at lw_ms 43 rfl) rfl
theorem qs44 : (Cond.selects "SleeveSlipsModel" ⟨"SleeveSlipsModel", "leftOf", "(I)I"⟩ ⟨"SleeveSlipsModel", "leftOf", "(I)I"⟩) ∈ lw_all := lw_g (lw_at lw_ms 44 rfl) rfl
theorem qs45 : (Cond.selects "SleeveSlipsModel" ⟨"SleeveSlipsModel", "leftTo", "(I)I"⟩ ⟨"SleeveSlipsModel", "leftTo", "(I)I"⟩) ∈ lw_all := lw_g (lw_at lw_ms 45 rfl) rfl
theorem qs46 : (Cond.selects "SleeveSlipsModel" ⟨"SleeveSlipsModel", "copy", "(II)V"⟩ ⟨"SleeveSlipsModel", "copy", "(II)V"⟩) ∈ lw_all := lw_g (lw_at lw_ms 46 rfl) rfl
