-- ===== PART A: goes FIRST, ahead of the names: the tables' words, and 'selects' of the private methods out of them =====
/-- a private method of a class that the tables say can be made, by its rows of tables_1 -/
def lw_okq (q : MethodName × Nat) : Prop := (q.1.cls ≠ "java/lang/invoke/MethodHandle" ∧ q.1.cls ≠ "java/lang/invoke/VarHandle") ∧ Cond.instantiable q.1.cls q.2 ∈ tables_1 ∧ Cond.privateMethod q.1 ∈ tables_1 ∧ Cond.instanceMethod q.1 ∈ tables_1
set_option maxRecDepth 100000
theorem lw_t1 {w : Cond} (h : w ∈ tables_1_1) : w ∈ tables_1 := List.mem_append_left _ h
theorem lw_t2 {w : Cond} (h : w ∈ tables_1_2) : w ∈ tables_1 := List.mem_append_right _ (List.mem_append_left _ h)
theorem lw_t3 {w : Cond} (h : w ∈ tables_1_3) : w ∈ tables_1 := List.mem_append_right _ (List.mem_append_right _ (List.mem_append_left _ h))
theorem lw_t4 {w : Cond} (h : w ∈ tables_1_4) : w ∈ tables_1 := List.mem_append_right _ (List.mem_append_right _ (List.mem_append_right _ (List.mem_append_left _ h)))
theorem lw_t5 {w : Cond} (h : w ∈ tables_1_5) : w ∈ tables_1 := List.mem_append_right _ (List.mem_append_right _ (List.mem_append_right _ (List.mem_append_right _ (List.mem_append_left _ h))))
theorem lw_t6 {w : Cond} (h : w ∈ tables_1_6) : w ∈ tables_1 := List.mem_append_right _ (List.mem_append_right _ (List.mem_append_right _ (List.mem_append_right _ (List.mem_append_right _ (List.mem_append_left _ h)))))
theorem lw_t7 {w : Cond} (h : w ∈ tables_1_7) : w ∈ tables_1 := List.mem_append_right _ (List.mem_append_right _ (List.mem_append_right _ (List.mem_append_right _ (List.mem_append_right _ (List.mem_append_right _ h)))))
theorem lw_p0 : lw_okq (⟨"java/lang/NullPointerException", "getExtendedNPEMessage", "()Ljava/lang/String;"⟩, 8) := ⟨⟨by decide +kernel, by decide +kernel⟩, lw_t2 (List.mem_of_getElem? (i := 34) rfl), lw_t2 (List.mem_of_getElem? (i := 32) rfl), lw_t2 (List.mem_of_getElem? (i := 33) rfl)⟩
theorem lw_p1 : lw_okq (⟨"java/lang/Throwable", "fillInStackTrace", "(I)Ljava/lang/Throwable;"⟩, 6) := ⟨⟨by decide +kernel, by decide +kernel⟩, lw_t2 (List.mem_of_getElem? (i := 46) rfl), lw_t2 (List.mem_of_getElem? (i := 44) rfl), lw_t2 (List.mem_of_getElem? (i := 45) rfl)⟩
theorem lw_p2 : lw_okq (⟨"TrailerYards", "found", "(I)I"⟩, 62) := ⟨⟨by decide +kernel, by decide +kernel⟩, lw_t1 (List.mem_of_getElem? (i := 25) rfl), lw_t2 (List.mem_of_getElem? (i := 96) rfl), lw_t2 (List.mem_of_getElem? (i := 97) rfl)⟩
theorem lw_p3 : lw_okq (⟨"TrailerYards", "say", "(II)I"⟩, 62) := ⟨⟨by decide +kernel, by decide +kernel⟩, lw_t1 (List.mem_of_getElem? (i := 25) rfl), lw_t2 (List.mem_of_getElem? (i := 148) rfl), lw_t2 (List.mem_of_getElem? (i := 149) rfl)⟩
theorem lw_p4 : lw_okq (⟨"TrailerYards", "read", "([B)I"⟩, 62) := ⟨⟨by decide +kernel, by decide +kernel⟩, lw_t1 (List.mem_of_getElem? (i := 25) rfl), lw_t2 (List.mem_of_getElem? (i := 196) rfl), lw_t2 (List.mem_of_getElem? (i := 197) rfl)⟩
theorem lw_p5 : lw_okq (⟨"TrailerYards", "comesTo", "(III)I"⟩, 62) := ⟨⟨by decide +kernel, by decide +kernel⟩, lw_t1 (List.mem_of_getElem? (i := 25) rfl), lw_t2 (List.mem_of_getElem? (i := 232) rfl), lw_t2 (List.mem_of_getElem? (i := 233) rfl)⟩
theorem lw_p6 : lw_okq (⟨"TrailerYards", "lead", "(IIZ)V"⟩, 62) := ⟨⟨by decide +kernel, by decide +kernel⟩, lw_t1 (List.mem_of_getElem? (i := 25) rfl), lw_t2 (List.mem_of_getElem? (i := 236) rfl), lw_t2 (List.mem_of_getElem? (i := 237) rfl)⟩
theorem lw_p7 : lw_okq (⟨"TrailerYards", "over", "(II)I"⟩, 62) := ⟨⟨by decide +kernel, by decide +kernel⟩, lw_t1 (List.mem_of_getElem? (i := 25) rfl), lw_t3 (List.mem_of_getElem? (i := 0) rfl), lw_t3 (List.mem_of_getElem? (i := 1) rfl)⟩
theorem lw_p8 : lw_okq (⟨"TrailerYards", "enter", "(IIII)V"⟩, 62) := ⟨⟨by decide +kernel, by decide +kernel⟩, lw_t1 (List.mem_of_getElem? (i := 25) rfl), lw_t3 (List.mem_of_getElem? (i := 138) rfl), lw_t3 (List.mem_of_getElem? (i := 139) rfl)⟩
theorem lw_p9 : lw_okq (⟨"TrailerYards", "isTrailer", "(I)Z"⟩, 62) := ⟨⟨by decide +kernel, by decide +kernel⟩, lw_t1 (List.mem_of_getElem? (i := 25) rfl), lw_t3 (List.mem_of_getElem? (i := 146) rfl), lw_t3 (List.mem_of_getElem? (i := 147) rfl)⟩
theorem lw_p10 : lw_okq (⟨"TrailerYards", "entryOf", "(II)I"⟩, 62) := ⟨⟨by decide +kernel, by decide +kernel⟩, lw_t1 (List.mem_of_getElem? (i := 25) rfl), lw_t3 (List.mem_of_getElem? (i := 202) rfl), lw_t3 (List.mem_of_getElem? (i := 203) rfl)⟩
theorem lw_p11 : lw_okq (⟨"TrailerYards", "isOnWay", "(I)Z"⟩, 62) := ⟨⟨by decide +kernel, by decide +kernel⟩, lw_t1 (List.mem_of_getElem? (i := 25) rfl), lw_t3 (List.mem_of_getElem? (i := 218) rfl), lw_t3 (List.mem_of_getElem? (i := 219) rfl)⟩
theorem lw_p12 : lw_okq (⟨"TrailerYards", "forceOf", "(IIII)I"⟩, 62) := ⟨⟨by decide +kernel, by decide +kernel⟩, lw_t1 (List.mem_of_getElem? (i := 25) rfl), lw_t3 (List.mem_of_getElem? (i := 234) rfl), lw_t3 (List.mem_of_getElem? (i := 235) rfl)⟩
theorem lw_p13 : lw_okq (⟨"TrailerYards", "tractorTells", "(II)I"⟩, 62) := ⟨⟨by decide +kernel, by decide +kernel⟩, lw_t1 (List.mem_of_getElem? (i := 25) rfl), lw_t4 (List.mem_of_getElem? (i := 2) rfl), lw_t4 (List.mem_of_getElem? (i := 3) rfl)⟩
theorem lw_p14 : lw_okq (⟨"TrailerYards", "leftAt", "(I)I"⟩, 62) := ⟨⟨by decide +kernel, by decide +kernel⟩, lw_t1 (List.mem_of_getElem? (i := 25) rfl), lw_t4 (List.mem_of_getElem? (i := 46) rfl), lw_t4 (List.mem_of_getElem? (i := 47) rfl)⟩
theorem lw_p15 : lw_okq (⟨"TrailerYards", "fraction", "(JJI)I"⟩, 62) := ⟨⟨by decide +kernel, by decide +kernel⟩, lw_t1 (List.mem_of_getElem? (i := 25) rfl), lw_t4 (List.mem_of_getElem? (i := 86) rfl), lw_t4 (List.mem_of_getElem? (i := 87) rfl)⟩
def lw_privs_1 : List (MethodName × Nat) := [(⟨"java/lang/NullPointerException", "getExtendedNPEMessage", "()Ljava/lang/String;"⟩, 8), (⟨"java/lang/Throwable", "fillInStackTrace", "(I)Ljava/lang/Throwable;"⟩, 6), (⟨"TrailerYards", "found", "(I)I"⟩, 62), (⟨"TrailerYards", "say", "(II)I"⟩, 62), (⟨"TrailerYards", "read", "([B)I"⟩, 62), (⟨"TrailerYards", "comesTo", "(III)I"⟩, 62), (⟨"TrailerYards", "lead", "(IIZ)V"⟩, 62), (⟨"TrailerYards", "over", "(II)I"⟩, 62), (⟨"TrailerYards", "enter", "(IIII)V"⟩, 62), (⟨"TrailerYards", "isTrailer", "(I)Z"⟩, 62), (⟨"TrailerYards", "entryOf", "(II)I"⟩, 62), (⟨"TrailerYards", "isOnWay", "(I)Z"⟩, 62), (⟨"TrailerYards", "forceOf", "(IIII)I"⟩, 62), (⟨"TrailerYards", "tractorTells", "(II)I"⟩, 62), (⟨"TrailerYards", "leftAt", "(I)I"⟩, 62), (⟨"TrailerYards", "fraction", "(JJI)I"⟩, 62)]
theorem lw_r1 : ∀ q ∈ lw_privs_1, lw_okq q := List.forall_mem_cons.mpr ⟨lw_p0, List.forall_mem_cons.mpr ⟨lw_p1, List.forall_mem_cons.mpr ⟨lw_p2, List.forall_mem_cons.mpr ⟨lw_p3, List.forall_mem_cons.mpr ⟨lw_p4, List.forall_mem_cons.mpr ⟨lw_p5, List.forall_mem_cons.mpr ⟨lw_p6, List.forall_mem_cons.mpr ⟨lw_p7, List.forall_mem_cons.mpr ⟨lw_p8, List.forall_mem_cons.mpr ⟨lw_p9, List.forall_mem_cons.mpr ⟨lw_p10, List.forall_mem_cons.mpr ⟨lw_p11, List.forall_mem_cons.mpr ⟨lw_p12, List.forall_mem_cons.mpr ⟨lw_p13, List.forall_mem_cons.mpr ⟨lw_p14, List.forall_mem_cons.mpr ⟨lw_p15, fun _ h => absurd h List.not_mem_nil⟩⟩⟩⟩⟩⟩⟩⟩⟩⟩⟩⟩⟩⟩⟩⟩
theorem lw_p16 : lw_okq (⟨"TrailerYards", "entryAhead", "(IIII)I"⟩, 62) := ⟨⟨by decide +kernel, by decide +kernel⟩, lw_t1 (List.mem_of_getElem? (i := 25) rfl), lw_t4 (List.mem_of_getElem? (i := 150) rfl), lw_t4 (List.mem_of_getElem? (i := 151) rfl)⟩
theorem lw_p17 : lw_okq (⟨"TrailerYards", "handOf", "(I)I"⟩, 62) := ⟨⟨by decide +kernel, by decide +kernel⟩, lw_t1 (List.mem_of_getElem? (i := 25) rfl), lw_t4 (List.mem_of_getElem? (i := 158) rfl), lw_t4 (List.mem_of_getElem? (i := 159) rfl)⟩
theorem lw_p18 : lw_okq (⟨"TrailerYards", "maySwap", "(I)Z"⟩, 62) := ⟨⟨by decide +kernel, by decide +kernel⟩, lw_t1 (List.mem_of_getElem? (i := 25) rfl), lw_t4 (List.mem_of_getElem? (i := 172) rfl), lw_t4 (List.mem_of_getElem? (i := 173) rfl)⟩
theorem lw_p19 : lw_okq (⟨"TrailerYards", "laySwap", "(IIII)Z"⟩, 62) := ⟨⟨by decide +kernel, by decide +kernel⟩, lw_t1 (List.mem_of_getElem? (i := 25) rfl), lw_t4 (List.mem_of_getElem? (i := 176) rfl), lw_t4 (List.mem_of_getElem? (i := 177) rfl)⟩
theorem lw_p20 : lw_okq (⟨"TrailerYards", "homeAt", "(III)I"⟩, 62) := ⟨⟨by decide +kernel, by decide +kernel⟩, lw_t1 (List.mem_of_getElem? (i := 25) rfl), lw_t4 (List.mem_of_getElem? (i := 180) rfl), lw_t4 (List.mem_of_getElem? (i := 181) rfl)⟩
theorem lw_p21 : lw_okq (⟨"TrailerYards", "tryPairs", "(I[II)V"⟩, 62) := ⟨⟨by decide +kernel, by decide +kernel⟩, lw_t1 (List.mem_of_getElem? (i := 25) rfl), lw_t4 (List.mem_of_getElem? (i := 188) rfl), lw_t4 (List.mem_of_getElem? (i := 189) rfl)⟩
theorem lw_p22 : lw_okq (⟨"TrailerYards", "canBeOf", "(I)I"⟩, 62) := ⟨⟨by decide +kernel, by decide +kernel⟩, lw_t1 (List.mem_of_getElem? (i := 25) rfl), lw_t4 (List.mem_of_getElem? (i := 205) rfl), lw_t4 (List.mem_of_getElem? (i := 206) rfl)⟩
theorem lw_p23 : lw_okq (⟨"TrailerYards", "lastSeen", "(I)I"⟩, 62) := ⟨⟨by decide +kernel, by decide +kernel⟩, lw_t1 (List.mem_of_getElem? (i := 25) rfl), lw_t4 (List.mem_of_getElem? (i := 209) rfl), lw_t4 (List.mem_of_getElem? (i := 210) rfl)⟩
theorem lw_p24 : lw_okq (⟨"TrailerYards", "tryLooks", "(IIII[II)V"⟩, 62) := ⟨⟨by decide +kernel, by decide +kernel⟩, lw_t1 (List.mem_of_getElem? (i := 25) rfl), lw_t4 (List.mem_of_getElem? (i := 217) rfl), lw_t4 (List.mem_of_getElem? (i := 218) rfl)⟩
theorem lw_p25 : lw_okq (⟨"TrailerYards", "cheapestWay", "()I"⟩, 62) := ⟨⟨by decide +kernel, by decide +kernel⟩, lw_t1 (List.mem_of_getElem? (i := 25) rfl), lw_t4 (List.mem_of_getElem? (i := 229) rfl), lw_t4 (List.mem_of_getElem? (i := 230) rfl)⟩
theorem lw_p26 : lw_okq (⟨"TrailerYards", "bringOne", "(I)V"⟩, 62) := ⟨⟨by decide +kernel, by decide +kernel⟩, lw_t1 (List.mem_of_getElem? (i := 25) rfl), lw_t4 (List.mem_of_getElem? (i := 234) rfl), lw_t4 (List.mem_of_getElem? (i := 235) rfl)⟩
theorem lw_p27 : lw_okq (⟨"TrailerYards", "rentCost", "(IIIIIII)I"⟩, 62) := ⟨⟨by decide +kernel, by decide +kernel⟩, lw_t1 (List.mem_of_getElem? (i := 25) rfl), lw_t5 (List.mem_of_getElem? (i := 2) rfl), lw_t5 (List.mem_of_getElem? (i := 3) rfl)⟩
theorem lw_p28 : lw_okq (⟨"TrailerYards", "counted", "(I)I"⟩, 62) := ⟨⟨by decide +kernel, by decide +kernel⟩, lw_t1 (List.mem_of_getElem? (i := 25) rfl), lw_t5 (List.mem_of_getElem? (i := 14) rfl), lw_t5 (List.mem_of_getElem? (i := 15) rfl)⟩
theorem lw_p29 : lw_okq (⟨"TrailerYards", "mix", "(J)V"⟩, 62) := ⟨⟨by decide +kernel, by decide +kernel⟩, lw_t1 (List.mem_of_getElem? (i := 25) rfl), lw_t5 (List.mem_of_getElem? (i := 31) rfl), lw_t5 (List.mem_of_getElem? (i := 32) rfl)⟩
theorem lw_p30 : lw_okq (⟨"TrailerYards", "mixWays", "()V"⟩, 62) := ⟨⟨by decide +kernel, by decide +kernel⟩, lw_t1 (List.mem_of_getElem? (i := 25) rfl), lw_t5 (List.mem_of_getElem? (i := 36) rfl), lw_t5 (List.mem_of_getElem? (i := 37) rfl)⟩
theorem lw_p31 : lw_okq (⟨"TrailerYardsModel", "meets", "(I)I"⟩, 73) := ⟨⟨by decide +kernel, by decide +kernel⟩, lw_t5 (List.mem_of_getElem? (i := 41) rfl), lw_t6 (List.mem_of_getElem? (i := 38) rfl), lw_t6 (List.mem_of_getElem? (i := 39) rfl)⟩
def lw_privs_2 : List (MethodName × Nat) := [(⟨"TrailerYards", "entryAhead", "(IIII)I"⟩, 62), (⟨"TrailerYards", "handOf", "(I)I"⟩, 62), (⟨"TrailerYards", "maySwap", "(I)Z"⟩, 62), (⟨"TrailerYards", "laySwap", "(IIII)Z"⟩, 62), (⟨"TrailerYards", "homeAt", "(III)I"⟩, 62), (⟨"TrailerYards", "tryPairs", "(I[II)V"⟩, 62), (⟨"TrailerYards", "canBeOf", "(I)I"⟩, 62), (⟨"TrailerYards", "lastSeen", "(I)I"⟩, 62), (⟨"TrailerYards", "tryLooks", "(IIII[II)V"⟩, 62), (⟨"TrailerYards", "cheapestWay", "()I"⟩, 62), (⟨"TrailerYards", "bringOne", "(I)V"⟩, 62), (⟨"TrailerYards", "rentCost", "(IIIIIII)I"⟩, 62), (⟨"TrailerYards", "counted", "(I)I"⟩, 62), (⟨"TrailerYards", "mix", "(J)V"⟩, 62), (⟨"TrailerYards", "mixWays", "()V"⟩, 62), (⟨"TrailerYardsModel", "meets", "(I)I"⟩, 73)]
theorem lw_r2 : ∀ q ∈ lw_privs_2, lw_okq q := List.forall_mem_cons.mpr ⟨lw_p16, List.forall_mem_cons.mpr ⟨lw_p17, List.forall_mem_cons.mpr ⟨lw_p18, List.forall_mem_cons.mpr ⟨lw_p19, List.forall_mem_cons.mpr ⟨lw_p20, List.forall_mem_cons.mpr ⟨lw_p21, List.forall_mem_cons.mpr ⟨lw_p22, List.forall_mem_cons.mpr ⟨lw_p23, List.forall_mem_cons.mpr ⟨lw_p24, List.forall_mem_cons.mpr ⟨lw_p25, List.forall_mem_cons.mpr ⟨lw_p26, List.forall_mem_cons.mpr ⟨lw_p27, List.forall_mem_cons.mpr ⟨lw_p28, List.forall_mem_cons.mpr ⟨lw_p29, List.forall_mem_cons.mpr ⟨lw_p30, List.forall_mem_cons.mpr ⟨lw_p31, fun _ h => absurd h List.not_mem_nil⟩⟩⟩⟩⟩⟩⟩⟩⟩⟩⟩⟩⟩⟩⟩⟩
theorem lw_p32 : lw_okq (⟨"TrailerYardsModel", "askedRow", "(I)I"⟩, 73) := ⟨⟨by decide +kernel, by decide +kernel⟩, lw_t5 (List.mem_of_getElem? (i := 41) rfl), lw_t6 (List.mem_of_getElem? (i := 46) rfl), lw_t6 (List.mem_of_getElem? (i := 47) rfl)⟩
theorem lw_p33 : lw_okq (⟨"TrailerYardsModel", "askedText", "(I)I"⟩, 73) := ⟨⟨by decide +kernel, by decide +kernel⟩, lw_t5 (List.mem_of_getElem? (i := 41) rfl), lw_t6 (List.mem_of_getElem? (i := 69) rfl), lw_t6 (List.mem_of_getElem? (i := 70) rfl)⟩
theorem lw_p34 : lw_okq (⟨"TrailerYardsModel", "setWay", "(IIIIII)V"⟩, 73) := ⟨⟨by decide +kernel, by decide +kernel⟩, lw_t5 (List.mem_of_getElem? (i := 41) rfl), lw_t6 (List.mem_of_getElem? (i := 85) rfl), lw_t6 (List.mem_of_getElem? (i := 86) rfl)⟩
theorem lw_p35 : lw_okq (⟨"TrailerYardsModel", "comesTo", "(III)I"⟩, 73) := ⟨⟨by decide +kernel, by decide +kernel⟩, lw_t5 (List.mem_of_getElem? (i := 41) rfl), lw_t6 (List.mem_of_getElem? (i := 97) rfl), lw_t6 (List.mem_of_getElem? (i := 98) rfl)⟩
theorem lw_p36 : lw_okq (⟨"TrailerYardsModel", "beyond", "(II)I"⟩, 73) := ⟨⟨by decide +kernel, by decide +kernel⟩, lw_t5 (List.mem_of_getElem? (i := 41) rfl), lw_t6 (List.mem_of_getElem? (i := 102) rfl), lw_t6 (List.mem_of_getElem? (i := 103) rfl)⟩
theorem lw_p37 : lw_okq (⟨"TrailerYardsModel", "enter", "(IIII)V"⟩, 73) := ⟨⟨by decide +kernel, by decide +kernel⟩, lw_t5 (List.mem_of_getElem? (i := 41) rfl), lw_t6 (List.mem_of_getElem? (i := 118) rfl), lw_t6 (List.mem_of_getElem? (i := 119) rfl)⟩
theorem lw_p38 : lw_okq (⟨"TrailerYardsModel", "isTrailer", "(I)Z"⟩, 73) := ⟨⟨by decide +kernel, by decide +kernel⟩, lw_t5 (List.mem_of_getElem? (i := 41) rfl), lw_t6 (List.mem_of_getElem? (i := 126) rfl), lw_t6 (List.mem_of_getElem? (i := 127) rfl)⟩
theorem lw_p39 : lw_okq (⟨"TrailerYardsModel", "trailerTells", "(II)I"⟩, 73) := ⟨⟨by decide +kernel, by decide +kernel⟩, lw_t5 (List.mem_of_getElem? (i := 41) rfl), lw_t6 (List.mem_of_getElem? (i := 130) rfl), lw_t6 (List.mem_of_getElem? (i := 131) rfl)⟩
theorem lw_p40 : lw_okq (⟨"TrailerYardsModel", "ask", "(II)I"⟩, 73) := ⟨⟨by decide +kernel, by decide +kernel⟩, lw_t5 (List.mem_of_getElem? (i := 41) rfl), lw_t6 (List.mem_of_getElem? (i := 134) rfl), lw_t6 (List.mem_of_getElem? (i := 135) rfl)⟩
theorem lw_p41 : lw_okq (⟨"TrailerYardsModel", "isCold", "(I)Z"⟩, 73) := ⟨⟨by decide +kernel, by decide +kernel⟩, lw_t5 (List.mem_of_getElem? (i := 41) rfl), lw_t6 (List.mem_of_getElem? (i := 142) rfl), lw_t6 (List.mem_of_getElem? (i := 143) rfl)⟩
theorem lw_p42 : lw_okq (⟨"TrailerYardsModel", "entryFrom", "(II)I"⟩, 73) := ⟨⟨by decide +kernel, by decide +kernel⟩, lw_t5 (List.mem_of_getElem? (i := 41) rfl), lw_t6 (List.mem_of_getElem? (i := 149) rfl), lw_t6 (List.mem_of_getElem? (i := 150) rfl)⟩
theorem lw_p43 : lw_okq (⟨"TrailerYardsModel", "isOnWay", "(I)Z"⟩, 73) := ⟨⟨by decide +kernel, by decide +kernel⟩, lw_t5 (List.mem_of_getElem? (i := 41) rfl), lw_t6 (List.mem_of_getElem? (i := 164) rfl), lw_t6 (List.mem_of_getElem? (i := 165) rfl)⟩
theorem lw_p44 : lw_okq (⟨"TrailerYardsModel", "inForce", "(IIII)I"⟩, 73) := ⟨⟨by decide +kernel, by decide +kernel⟩, lw_t5 (List.mem_of_getElem? (i := 41) rfl), lw_t6 (List.mem_of_getElem? (i := 180) rfl), lw_t6 (List.mem_of_getElem? (i := 181) rfl)⟩
theorem lw_p45 : lw_okq (⟨"TrailerYardsModel", "tractorTells", "(II)I"⟩, 73) := ⟨⟨by decide +kernel, by decide +kernel⟩, lw_t5 (List.mem_of_getElem? (i := 41) rfl), lw_t6 (List.mem_of_getElem? (i := 188) rfl), lw_t6 (List.mem_of_getElem? (i := 189) rfl)⟩
theorem lw_p46 : lw_okq (⟨"TrailerYardsModel", "reads", "(I)I"⟩, 73) := ⟨⟨by decide +kernel, by decide +kernel⟩, lw_t5 (List.mem_of_getElem? (i := 41) rfl), lw_t6 (List.mem_of_getElem? (i := 216) rfl), lw_t6 (List.mem_of_getElem? (i := 217) rfl)⟩
theorem lw_p47 : lw_okq (⟨"TrailerYardsModel", "liesOn", "(IIZ)J"⟩, 73) := ⟨⟨by decide +kernel, by decide +kernel⟩, lw_t5 (List.mem_of_getElem? (i := 41) rfl), lw_t7 (List.mem_of_getElem? (i := 25) rfl), lw_t7 (List.mem_of_getElem? (i := 26) rfl)⟩
def lw_privs_3 : List (MethodName × Nat) := [(⟨"TrailerYardsModel", "askedRow", "(I)I"⟩, 73), (⟨"TrailerYardsModel", "askedText", "(I)I"⟩, 73), (⟨"TrailerYardsModel", "setWay", "(IIIIII)V"⟩, 73), (⟨"TrailerYardsModel", "comesTo", "(III)I"⟩, 73), (⟨"TrailerYardsModel", "beyond", "(II)I"⟩, 73), (⟨"TrailerYardsModel", "enter", "(IIII)V"⟩, 73), (⟨"TrailerYardsModel", "isTrailer", "(I)Z"⟩, 73), (⟨"TrailerYardsModel", "trailerTells", "(II)I"⟩, 73), (⟨"TrailerYardsModel", "ask", "(II)I"⟩, 73), (⟨"TrailerYardsModel", "isCold", "(I)Z"⟩, 73), (⟨"TrailerYardsModel", "entryFrom", "(II)I"⟩, 73), (⟨"TrailerYardsModel", "isOnWay", "(I)Z"⟩, 73), (⟨"TrailerYardsModel", "inForce", "(IIII)I"⟩, 73), (⟨"TrailerYardsModel", "tractorTells", "(II)I"⟩, 73), (⟨"TrailerYardsModel", "reads", "(I)I"⟩, 73), (⟨"TrailerYardsModel", "liesOn", "(IIZ)J"⟩, 73)]
theorem lw_r3 : ∀ q ∈ lw_privs_3, lw_okq q := List.forall_mem_cons.mpr ⟨lw_p32, List.forall_mem_cons.mpr ⟨lw_p33, List.forall_mem_cons.mpr ⟨lw_p34, List.forall_mem_cons.mpr ⟨lw_p35, List.forall_mem_cons.mpr ⟨lw_p36, List.forall_mem_cons.mpr ⟨lw_p37, List.forall_mem_cons.mpr ⟨lw_p38, List.forall_mem_cons.mpr ⟨lw_p39, List.forall_mem_cons.mpr ⟨lw_p40, List.forall_mem_cons.mpr ⟨lw_p41, List.forall_mem_cons.mpr ⟨lw_p42, List.forall_mem_cons.mpr ⟨lw_p43, List.forall_mem_cons.mpr ⟨lw_p44, List.forall_mem_cons.mpr ⟨lw_p45, List.forall_mem_cons.mpr ⟨lw_p46, List.forall_mem_cons.mpr ⟨lw_p47, fun _ h => absurd h List.not_mem_nil⟩⟩⟩⟩⟩⟩⟩⟩⟩⟩⟩⟩⟩⟩⟩⟩
theorem lw_p48 : lw_okq (⟨"TrailerYardsModel", "sumOf", "(IZ)J"⟩, 73) := ⟨⟨by decide +kernel, by decide +kernel⟩, lw_t5 (List.mem_of_getElem? (i := 41) rfl), lw_t7 (List.mem_of_getElem? (i := 29) rfl), lw_t7 (List.mem_of_getElem? (i := 30) rfl)⟩
theorem lw_p49 : lw_okq (⟨"TrailerYardsModel", "share", "(JJ)I"⟩, 73) := ⟨⟨by decide +kernel, by decide +kernel⟩, lw_t5 (List.mem_of_getElem? (i := 41) rfl), lw_t7 (List.mem_of_getElem? (i := 33) rfl), lw_t7 (List.mem_of_getElem? (i := 34) rfl)⟩
theorem lw_p50 : lw_okq (⟨"TrailerYardsModel", "isLawful", "(II)Z"⟩, 73) := ⟨⟨by decide +kernel, by decide +kernel⟩, lw_t5 (List.mem_of_getElem? (i := 41) rfl), lw_t7 (List.mem_of_getElem? (i := 41) rfl), lw_t7 (List.mem_of_getElem? (i := 42) rfl)⟩
theorem lw_p51 : lw_okq (⟨"TrailerYardsModel", "findTheft", "(I)Z"⟩, 73) := ⟨⟨by decide +kernel, by decide +kernel⟩, lw_t5 (List.mem_of_getElem? (i := 41) rfl), lw_t7 (List.mem_of_getElem? (i := 61) rfl), lw_t7 (List.mem_of_getElem? (i := 62) rfl)⟩
theorem lw_p52 : lw_okq (⟨"TrailerYardsModel", "maySwap", "(I)Z"⟩, 73) := ⟨⟨by decide +kernel, by decide +kernel⟩, lw_t5 (List.mem_of_getElem? (i := 41) rfl), lw_t7 (List.mem_of_getElem? (i := 76) rfl), lw_t7 (List.mem_of_getElem? (i := 77) rfl)⟩
theorem lw_p53 : lw_okq (⟨"TrailerYardsModel", "bestSwap", "(IIII)I"⟩, 73) := ⟨⟨by decide +kernel, by decide +kernel⟩, lw_t5 (List.mem_of_getElem? (i := 41) rfl), lw_t7 (List.mem_of_getElem? (i := 80) rfl), lw_t7 (List.mem_of_getElem? (i := 81) rfl)⟩
theorem lw_p54 : lw_okq (⟨"TrailerYardsModel", "swapsAt", "(IIIIII)Z"⟩, 73) := ⟨⟨by decide +kernel, by decide +kernel⟩, lw_t5 (List.mem_of_getElem? (i := 41) rfl), lw_t7 (List.mem_of_getElem? (i := 84) rfl), lw_t7 (List.mem_of_getElem? (i := 85) rfl)⟩
theorem lw_p55 : lw_okq (⟨"TrailerYardsModel", "partWays", "(III)I"⟩, 73) := ⟨⟨by decide +kernel, by decide +kernel⟩, lw_t5 (List.mem_of_getElem? (i := 41) rfl), lw_t7 (List.mem_of_getElem? (i := 92) rfl), lw_t7 (List.mem_of_getElem? (i := 93) rfl)⟩
theorem lw_p56 : lw_okq (⟨"TrailerYardsModel", "pairEnd", "(III)I"⟩, 73) := ⟨⟨by decide +kernel, by decide +kernel⟩, lw_t5 (List.mem_of_getElem? (i := 41) rfl), lw_t7 (List.mem_of_getElem? (i := 96) rfl), lw_t7 (List.mem_of_getElem? (i := 97) rfl)⟩
theorem lw_p57 : lw_okq (⟨"TrailerYardsModel", "yardsOf", "(I)I"⟩, 73) := ⟨⟨by decide +kernel, by decide +kernel⟩, lw_t5 (List.mem_of_getElem? (i := 41) rfl), lw_t7 (List.mem_of_getElem? (i := 113) rfl), lw_t7 (List.mem_of_getElem? (i := 114) rfl)⟩
theorem lw_p58 : lw_okq (⟨"TrailerYardsModel", "nextOrder", "(I)Z"⟩, 73) := ⟨⟨by decide +kernel, by decide +kernel⟩, lw_t5 (List.mem_of_getElem? (i := 41) rfl), lw_t7 (List.mem_of_getElem? (i := 121) rfl), lw_t7 (List.mem_of_getElem? (i := 122) rfl)⟩
theorem lw_p59 : lw_okq (⟨"TrailerYardsModel", "nextBrought", "()I"⟩, 73) := ⟨⟨by decide +kernel, by decide +kernel⟩, lw_t5 (List.mem_of_getElem? (i := 41) rfl), lw_t7 (List.mem_of_getElem? (i := 133) rfl), lw_t7 (List.mem_of_getElem? (i := 134) rfl)⟩
theorem lw_p60 : lw_okq (⟨"TrailerYardsModel", "counts", "(I)I"⟩, 73) := ⟨⟨by decide +kernel, by decide +kernel⟩, lw_t5 (List.mem_of_getElem? (i := 41) rfl), lw_t7 (List.mem_of_getElem? (i := 165) rfl), lw_t7 (List.mem_of_getElem? (i := 166) rfl)⟩
theorem lw_p61 : lw_okq (⟨"TrailerYardsModel", "mix", "(I)V"⟩, 73) := ⟨⟨by decide +kernel, by decide +kernel⟩, lw_t5 (List.mem_of_getElem? (i := 41) rfl), lw_t7 (List.mem_of_getElem? (i := 182) rfl), lw_t7 (List.mem_of_getElem? (i := 183) rfl)⟩
def lw_privs_4 : List (MethodName × Nat) := [(⟨"TrailerYardsModel", "sumOf", "(IZ)J"⟩, 73), (⟨"TrailerYardsModel", "share", "(JJ)I"⟩, 73), (⟨"TrailerYardsModel", "isLawful", "(II)Z"⟩, 73), (⟨"TrailerYardsModel", "findTheft", "(I)Z"⟩, 73), (⟨"TrailerYardsModel", "maySwap", "(I)Z"⟩, 73), (⟨"TrailerYardsModel", "bestSwap", "(IIII)I"⟩, 73), (⟨"TrailerYardsModel", "swapsAt", "(IIIIII)Z"⟩, 73), (⟨"TrailerYardsModel", "partWays", "(III)I"⟩, 73), (⟨"TrailerYardsModel", "pairEnd", "(III)I"⟩, 73), (⟨"TrailerYardsModel", "yardsOf", "(I)I"⟩, 73), (⟨"TrailerYardsModel", "nextOrder", "(I)Z"⟩, 73), (⟨"TrailerYardsModel", "nextBrought", "()I"⟩, 73), (⟨"TrailerYardsModel", "counts", "(I)I"⟩, 73), (⟨"TrailerYardsModel", "mix", "(I)V"⟩, 73)]
theorem lw_r4 : ∀ q ∈ lw_privs_4, lw_okq q := List.forall_mem_cons.mpr ⟨lw_p48, List.forall_mem_cons.mpr ⟨lw_p49, List.forall_mem_cons.mpr ⟨lw_p50, List.forall_mem_cons.mpr ⟨lw_p51, List.forall_mem_cons.mpr ⟨lw_p52, List.forall_mem_cons.mpr ⟨lw_p53, List.forall_mem_cons.mpr ⟨lw_p54, List.forall_mem_cons.mpr ⟨lw_p55, List.forall_mem_cons.mpr ⟨lw_p56, List.forall_mem_cons.mpr ⟨lw_p57, List.forall_mem_cons.mpr ⟨lw_p58, List.forall_mem_cons.mpr ⟨lw_p59, List.forall_mem_cons.mpr ⟨lw_p60, List.forall_mem_cons.mpr ⟨lw_p61, fun _ h => absurd h List.not_mem_nil⟩⟩⟩⟩⟩⟩⟩⟩⟩⟩⟩⟩⟩⟩
def lw_privs : List (MethodName × Nat) := lw_privs_1 ++ (lw_privs_2 ++ (lw_privs_3 ++ (lw_privs_4)))
def lw_tbl : List Cond := k2_sels lw_privs ++ tables_1
theorem lw_privs_ok : ∀ q ∈ lw_privs, lw_okq q := by
  show ∀ q ∈ lw_privs_1 ++ (lw_privs_2 ++ (lw_privs_3 ++ (lw_privs_4))), lw_okq q
  exact List.forall_mem_append.mpr ⟨lw_r1, List.forall_mem_append.mpr ⟨lw_r2, List.forall_mem_append.mpr ⟨lw_r3, lw_r4⟩⟩⟩
-- ===== ONE list of words for every method: the tables' words that hold all through a run =====
def lw_all : List Cond := lw_tbl.filter goodWord
/-- a word of the tables by its place: claim/WORDS.tsv -/
theorem lw_w {w : Cond} (i : Nat) (h : lw_tbl[i]? = some w) (g : goodWord w = true) : w ∈ lw_all := List.mem_filter.mpr ⟨List.mem_of_getElem? h, g⟩
theorem lw_all_tbl {w : Cond} (h : w ∈ lw_all) : w ∈ lw_tbl := (List.mem_filter.mp h).1
theorem lw_self : GoodIn lw_all lw_all := fun w h => ⟨h, good_of_word (List.mem_filter.mp h).2⟩
/-- a class's field words, by their places -/
theorem lw_in (ws : List Cond) (ps : List Nat) (hp : ws = ps.filterMap (fun i => lw_tbl[i]?)) (hg : ws.all goodWord = true) : ∀ w ∈ ws, w ∈ lw_all := by
  intro w h
  have h1 := List.all_eq_true.mp hg w h
  rw [hp] at h
  obtain ⟨i, -, hi⟩ := List.mem_filterMap.mp h
  exact lw_w i hi h1
/-- the words of a contract for the method y with code b, L locals, answer r -/
abbrev ws_ (y : MethodName) (b : ByteArray) (L : Nat) (r : Option FieldType) : List Cond := Cond.code y b L r :: lw_all
theorem lw_meth {y : MethodName} {b : ByteArray} {L : Nat} {r : Option FieldType} (h : Cond.code y b L r ∈ lw_all) : GoodIn lw_all (ws_ y b L r) := by
  intro w hw
  rcases List.mem_cons.mp hw with e | e
  · rw [e]
    exact lw_self _ h
  · exact lw_self _ e
theorem lw_app {a c : List Cond} (ha : ∀ w ∈ a, w ∈ lw_all) (hc : GoodIn lw_all c) : GoodIn lw_all (a ++ c) := by
  intro w hw
  rcases List.mem_append.mp hw with e | e
  · exact lw_self w (ha w e)
  · exact hc w e
/-- what a call through an object asks: cwV n hts (lw_V ..) -/
theorem lw_V {own : String} {idx : Nat} {C : String} {y : MethodName} {b : ByteArray} {L : Nat} {r : Option FieldType} (h1 : Cond.methodLink own idx y ∈ lw_all) (h2 : Cond.instanceMethod y ∈ lw_all) (h3 : Cond.selects C y y ∈ lw_all) (h4 : Cond.initialized C ∈ lw_all) (h5 : Cond.code y b L r ∈ lw_all) : GoodIn lw_all (wsV own idx C y (ws_ y b L r)) := by
  refine lw_app ?_ (lw_meth h5)
  intro w hw
  simp only [List.mem_cons, List.not_mem_nil, or_false] at hw
  rcases hw with e | e | e | e
  · rw [e]; exact h1
  · rw [e]; exact h2
  · rw [e]; exact h3
  · rw [e]; exact h4
/-- what a static call asks: va_cwS n hts (lw_S ..) -/
theorem lw_S {own : String} {idx : Nat} {y : MethodName} {b : ByteArray} {L : Nat} {r : Option FieldType} (h1 : Cond.methodLink own idx y ∈ lw_all) (h2 : Cond.static y ∈ lw_all) (h3 : Cond.initialized y.cls ∈ lw_all) (h4 : Cond.code y b L r ∈ lw_all) : GoodIn lw_all (va_wsS own idx y (ws_ y b L r)) := by
  refine lw_app ?_ (lw_meth h4)
  intro w hw
  simp only [List.mem_cons, List.not_mem_nil, or_false] at hw
  rcases hw with e | e | e
  · rw [e]; exact h1
  · rw [e]; exact h2
  · rw [e]; exact h3
/-- the words of a contract for a method WITH HANDLERS (hh: its table) -/
abbrev wsW_ (y : MethodName) (b : ByteArray) (L : Nat) (r : Option FieldType) (hh : List (Nat × Nat × Nat × Nat)) : List Cond := Cond.codeWith y b L r hh :: lw_all
theorem lw_methW {y : MethodName} {b : ByteArray} {L : Nat} {r : Option FieldType} {hh : List (Nat × Nat × Nat × Nat)} (h : Cond.codeWith y b L r hh ∈ lw_all) : GoodIn lw_all (wsW_ y b L r hh) := by
  intro w hw
  rcases List.mem_cons.mp hw with e | e
  · rw [e]
    exact lw_self _ h
  · exact lw_self _ e
/-- any list of words by their places (lw_in), good -/
theorem lw_good {ws : List Cond} (h : ∀ w ∈ ws, w ∈ lw_all) : GoodIn lw_all ws := fun w hw => lw_self w (h w hw)
/-- what a call of a method with handlers asks: vx_cwVW n hts (lw_VW ..), vx_cwSW n hts (lw_SW ..) -/
theorem lw_VW {own : String} {idx : Nat} {C : String} {y : MethodName} {b : ByteArray} {L : Nat} {r : Option FieldType} {hh : List (Nat × Nat × Nat × Nat)} (h1 : Cond.methodLink own idx y ∈ lw_all) (h2 : Cond.instanceMethod y ∈ lw_all) (h3 : Cond.selects C y y ∈ lw_all) (h4 : Cond.initialized C ∈ lw_all) (h5 : Cond.codeWith y b L r hh ∈ lw_all) : GoodIn lw_all (wsV own idx C y (wsW_ y b L r hh)) := by
  refine lw_app ?_ (lw_methW h5)
  intro w hw
  simp only [List.mem_cons, List.not_mem_nil, or_false] at hw
  rcases hw with e | e | e | e
  · rw [e]; exact h1
  · rw [e]; exact h2
  · rw [e]; exact h3
  · rw [e]; exact h4
theorem lw_SW {own : String} {idx : Nat} {y : MethodName} {b : ByteArray} {L : Nat} {r : Option FieldType} {hh : List (Nat × Nat × Nat × Nat)} (h1 : Cond.methodLink own idx y ∈ lw_all) (h2 : Cond.static y ∈ lw_all) (h3 : Cond.initialized y.cls ∈ lw_all) (h4 : Cond.codeWith y b L r hh ∈ lw_all) : GoodIn lw_all (va_wsS own idx y (wsW_ y b L r hh)) := by
  refine lw_app ?_ (lw_methW h4)
  intro w hw
  simp only [List.mem_cons, List.not_mem_nil, or_false] at hw
  rcases hw with e | e | e
  · rw [e]; exact h1
  · rw [e]; exact h2
  · rw [e]; exact h3
/-- a word by its place in its run of the tables -/
theorem lw_at {r : List Cond} (hr : ∀ w ∈ r, w ∈ lw_tbl) {w : Cond} (i : Nat) (h : r[i]? = some w) : w ∈ lw_tbl := hr w (List.mem_of_getElem? h)
theorem lw_g {w : Cond} (h : w ∈ lw_tbl) (g : goodWord w = true) : w ∈ lw_all := List.mem_filter.mpr ⟨h, g⟩
theorem lw_ms : ∀ w ∈ k2_sels lw_privs, w ∈ lw_tbl := fun w h => show w ∈ k2_sels lw_privs ++ tables_1 from List.mem_append_left _ h
theorem lw_m1 : ∀ w ∈ tables_1_1, w ∈ lw_tbl := fun w h => show w ∈ k2_sels lw_privs ++ tables_1 from List.mem_append_right (k2_sels lw_privs) (show w ∈ tables_1 from List.mem_append_left _ h)
theorem lw_m2 : ∀ w ∈ tables_1_2, w ∈ lw_tbl := fun w h => show w ∈ k2_sels lw_privs ++ tables_1 from List.mem_append_right (k2_sels lw_privs) (show w ∈ tables_1 from List.mem_append_right _ (List.mem_append_left _ h))
theorem lw_m3 : ∀ w ∈ tables_1_3, w ∈ lw_tbl := fun w h => show w ∈ k2_sels lw_privs ++ tables_1 from List.mem_append_right (k2_sels lw_privs) (show w ∈ tables_1 from List.mem_append_right _ (List.mem_append_right _ (List.mem_append_left _ h)))
theorem lw_m4 : ∀ w ∈ tables_1_4, w ∈ lw_tbl := fun w h => show w ∈ k2_sels lw_privs ++ tables_1 from List.mem_append_right (k2_sels lw_privs) (show w ∈ tables_1 from List.mem_append_right _ (List.mem_append_right _ (List.mem_append_right _ (List.mem_append_left _ h))))
theorem lw_m5 : ∀ w ∈ tables_1_5, w ∈ lw_tbl := fun w h => show w ∈ k2_sels lw_privs ++ tables_1 from List.mem_append_right (k2_sels lw_privs) (show w ∈ tables_1 from List.mem_append_right _ (List.mem_append_right _ (List.mem_append_right _ (List.mem_append_right _ (List.mem_append_left _ h)))))
theorem lw_m6 : ∀ w ∈ tables_1_6, w ∈ lw_tbl := fun w h => show w ∈ k2_sels lw_privs ++ tables_1 from List.mem_append_right (k2_sels lw_privs) (show w ∈ tables_1 from List.mem_append_right _ (List.mem_append_right _ (List.mem_append_right _ (List.mem_append_right _ (List.mem_append_right _ (List.mem_append_left _ h))))))
theorem lw_m7 : ∀ w ∈ tables_1_7, w ∈ lw_tbl := fun w h => show w ∈ k2_sels lw_privs ++ tables_1 from List.mem_append_right (k2_sels lw_privs) (show w ∈ tables_1 from List.mem_append_right _ (List.mem_append_right _ (List.mem_append_right _ (List.mem_append_right _ (List.mem_append_right _ (List.mem_append_right _ h))))))
theorem qs0 : (Cond.selects "java/lang/NullPointerException" ⟨"java/lang/NullPointerException", "getExtendedNPEMessage", "()Ljava/lang/String;"⟩ ⟨"java/lang/NullPointerException", "getExtendedNPEMessage", "()Ljava/lang/String;"⟩) ∈ lw_all := lw_g (lw_at lw_ms 0 rfl) rfl
theorem qs1 : (Cond.selects "java/lang/Throwable" ⟨"java/lang/Throwable", "fillInStackTrace", "(I)Ljava/lang/Throwable;"⟩ ⟨"java/lang/Throwable", "fillInStackTrace", "(I)Ljava/lang/Throwable;"⟩) ∈ lw_all := lw_g (lw_at lw_ms 1 rfl) rfl
theorem qs2 : (Cond.selects "TrailerYards" ⟨"TrailerYards", "found", "(I)I"⟩ ⟨"TrailerYards", "found", "(I)I"⟩) ∈ lw_all := lw_g (lw_at lw_ms 2 rfl) rfl
theorem qs3 : (Cond.selects "TrailerYards" ⟨"TrailerYards", "say", "(II)I"⟩ ⟨"TrailerYards", "say", "(II)I"⟩) ∈ lw_all := lw_g (lw_at lw_ms 3 rfl) rfl
theorem qs4 : (Cond.selects "TrailerYards" ⟨"TrailerYards", "read", "([B)I"⟩ ⟨"TrailerYards", "read", "([B)I"⟩) ∈ lw_all := lw_g (lw_at lw_ms 4 rfl) rfl
theorem qs5 : (Cond.selects "TrailerYards" ⟨"TrailerYards", "comesTo", "(III)I"⟩ ⟨"TrailerYards", "comesTo", "(III)I"⟩) ∈ lw_all := lw_g (lw_at lw_ms 5 rfl) rfl
theorem qs6 : (Cond.selects "TrailerYards" ⟨"TrailerYards", "lead", "(IIZ)V"⟩ ⟨"TrailerYards", "lead", "(IIZ)V"⟩) ∈ lw_all := lw_g (lw_at lw_ms 6 rfl) rfl
theorem qs7 : (Cond.selects "TrailerYards" ⟨"TrailerYards", "over", "(II)I"⟩ ⟨"TrailerYards", "over", "(II)I"⟩) ∈ lw_all := lw_g (lw_at lw_ms 7 rfl) rfl
theorem qs8 : (Cond.selects "TrailerYards" ⟨"TrailerYards", "enter", "(IIII)V"⟩ ⟨"TrailerYards", "enter", "(IIII)V"⟩) ∈ lw_all := lw_g (lw_at lw_ms 8 rfl) rfl
theorem qs9 : (Cond.selects "TrailerYards" ⟨"TrailerYards", "isTrailer", "(I)Z"⟩ ⟨"TrailerYards", "isTrailer", "(I)Z"⟩) ∈ lw_all := lw_g (lw_at lw_ms 9 rfl) rfl
theorem qs10 : (Cond.selects "TrailerYards" ⟨"TrailerYards", "entryOf", "(II)I"⟩ ⟨"TrailerYards", "entryOf", "(II)I"⟩) ∈ lw_all := lw_g (lw_at lw_ms 10 rfl) rfl
theorem qs11 : (Cond.selects "TrailerYards" ⟨"TrailerYards", "isOnWay", "(I)Z"⟩ ⟨"TrailerYards", "isOnWay", "(I)Z"⟩) ∈ lw_all := lw_g (lw_at lw_ms 11 rfl) rfl
theorem qs12 : (Cond.selects "TrailerYards" ⟨"TrailerYards", "forceOf", "(IIII)I"⟩ ⟨"TrailerYards", "forceOf", "(IIII)I"⟩) ∈ lw_all := lw_g (lw_at lw_ms 12 rfl) rfl
theorem qs13 : (Cond.selects "TrailerYards" ⟨"TrailerYards", "tractorTells", "(II)I"⟩ ⟨"TrailerYards", "tractorTells", "(II)I"⟩) ∈ lw_all := lw_g (lw_at lw_ms 13 rfl) rfl
theorem qs14 : (Cond.selects "TrailerYards" ⟨"TrailerYards", "leftAt", "(I)I"⟩ ⟨"TrailerYards", "leftAt", "(I)I"⟩) ∈ lw_all := lw_g (lw_at lw_ms 14 rfl) rfl
theorem qs15 : (Cond.selects "TrailerYards" ⟨"TrailerYards", "fraction", "(JJI)I"⟩ ⟨"TrailerYards", "fraction", "(JJI)I"⟩) ∈ lw_all := lw_g (lw_at lw_ms 15 rfl) rfl
theorem qs16 : (Cond.selects "TrailerYards" ⟨"TrailerYards", "entryAhead", "(IIII)I"⟩ ⟨"TrailerYards", "entryAhead", "(IIII)I"⟩) ∈ lw_all := lw_g (lw_at lw_ms 16 rfl) rfl
theorem qs17 : (Cond.selects "TrailerYards" ⟨"TrailerYards", "handOf", "(I)I"⟩ ⟨"TrailerYards", "handOf", "(I)I"⟩) ∈ lw_all := lw_g (lw_at lw_ms 17 rfl) rfl
theorem qs18 : (Cond.selects "TrailerYards" ⟨"TrailerYards", "maySwap", "(I)Z"⟩ ⟨"TrailerYards", "maySwap", "(I)Z"⟩) ∈ lw_all := lw_g (lw_at lw_ms 18 rfl) rfl
theorem qs19 : (Cond.selects "TrailerYards" ⟨"TrailerYards", "laySwap", "(IIII)Z"⟩ ⟨"TrailerYards", "laySwap", "(IIII)Z"⟩) ∈ lw_all := lw_g (lw_at lw_ms 19 rfl) rfl
theorem qs20 : (Cond.selects "TrailerYards" ⟨"TrailerYards", "homeAt", "(III)I"⟩ ⟨"TrailerYards", "homeAt", "(III)I"⟩) ∈ lw_all := lw_g (lw_at lw_ms 20 rfl) rfl
theorem qs21 : (Cond.selects "TrailerYards" ⟨"TrailerYards", "tryPairs", "(I[II)V"⟩ ⟨"TrailerYards", "tryPairs", "(I[II)V"⟩) ∈ lw_all := lw_g (lw_at lw_ms 21 rfl) rfl
theorem qs22 : (Cond.selects "TrailerYards" ⟨"TrailerYards", "canBeOf", "(I)I"⟩ ⟨"TrailerYards", "canBeOf", "(I)I"⟩) ∈ lw_all := lw_g (lw_at lw_ms 22 rfl) rfl
theorem qs23 : (Cond.selects "TrailerYards" ⟨"TrailerYards", "lastSeen", "(I)I"⟩ ⟨"TrailerYards", "lastSeen", "(I)I"⟩) ∈ lw_all := lw_g (lw_at lw_ms 23 rfl) rfl
theorem qs24 : (Cond.selects "TrailerYards" ⟨"TrailerYards", "tryLooks", "(IIII[II)V"⟩ ⟨"TrailerYards", "tryLooks", "(IIII[II)V"⟩) ∈ lw_all := lw_g (lw_at lw_ms 24 rfl) rfl
theorem qs25 : (Cond.selects "TrailerYards" ⟨"TrailerYards", "cheapestWay", "()I"⟩ ⟨"TrailerYards", "cheapestWay", "()I"⟩) ∈ lw_all := lw_g (lw_at lw_ms 25 rfl) rfl
theorem qs26 : (Cond.selects "TrailerYards" ⟨"TrailerYards", "bringOne", "(I)V"⟩ ⟨"TrailerYards", "bringOne", "(I)V"⟩) ∈ lw_all := lw_g (lw_at lw_ms 26 rfl) rfl
theorem qs27 : (Cond.selects "TrailerYards" ⟨"TrailerYards", "rentCost", "(IIIIIII)I"⟩ ⟨"TrailerYards", "rentCost", "(IIIIIII)I"⟩) ∈ lw_all := lw_g (lw_at lw_ms 27 rfl) rfl
theorem qs28 : (Cond.selects "TrailerYards" ⟨"TrailerYards", "counted", "(I)I"⟩ ⟨"TrailerYards", "counted", "(I)I"⟩) ∈ lw_all := lw_g (lw_at lw_ms 28 rfl) rfl
theorem qs29 : (Cond.selects "TrailerYards" ⟨"TrailerYards", "mix", "(J)V"⟩ ⟨"TrailerYards", "mix", "(J)V"⟩) ∈ lw_all := lw_g (lw_at lw_ms 29 rfl) rfl
theorem qs30 : (Cond.selects "TrailerYards" ⟨"TrailerYards", "mixWays", "()V"⟩ ⟨"TrailerYards", "mixWays", "()V"⟩) ∈ lw_all := lw_g (lw_at lw_ms 30 rfl) rfl
theorem qs31 : (Cond.selects "TrailerYardsModel" ⟨"TrailerYardsModel", "meets", "(I)I"⟩ ⟨"TrailerYardsModel", "meets", "(I)I"⟩) ∈ lw_all := lw_g (lw_at lw_ms 31 rfl) rfl
theorem qs32 : (Cond.selects "TrailerYardsModel" ⟨"TrailerYardsModel", "askedRow", "(I)I"⟩ ⟨"TrailerYardsModel", "askedRow", "(I)I"⟩) ∈ lw_all := lw_g (lw_at lw_ms 32 rfl) rfl
theorem qs33 : (Cond.selects "TrailerYardsModel" ⟨"TrailerYardsModel", "askedText", "(I)I"⟩ ⟨"TrailerYardsModel", "askedText", "(I)I"⟩) ∈ lw_all := lw_g (lw_at lw_ms 33 rfl) rfl
theorem qs34 : (Cond.selects "TrailerYardsModel" ⟨"TrailerYardsModel", "setWay", "(IIIIII)V"⟩ ⟨"TrailerYardsModel", "setWay", "(IIIIII)V"⟩) ∈ lw_all := lw_g (lw_at lw_ms 34 rfl) rfl
theorem qs35 : (Cond.selects "TrailerYardsModel" ⟨"TrailerYardsModel", "comesTo", "(III)I"⟩ ⟨"TrailerYardsModel", "comesTo", "(III)I"⟩) ∈ lw_all := lw_g (lw_at lw_ms 35 rfl) rfl
theorem qs36 : (Cond.selects "TrailerYardsModel" ⟨"TrailerYardsModel", "beyond", "(II)I"⟩ ⟨"TrailerYardsModel", "beyond", "(II)I"⟩) ∈ lw_all := lw_g (lw_at lw_ms 36 rfl) rfl
theorem qs37 : (Cond.selects "TrailerYardsModel" ⟨"TrailerYardsModel", "enter", "(IIII)V"⟩ ⟨"TrailerYardsModel", "enter", "(IIII)V"⟩) ∈ lw_all := lw_g (lw_at lw_ms 37 rfl) rfl
theorem qs38 : (Cond.selects "TrailerYardsModel" ⟨"TrailerYardsModel", "isTrailer", "(I)Z"⟩ ⟨"TrailerYardsModel", "isTrailer", "(I)Z"⟩) ∈ lw_all := lw_g (lw_at lw_ms 38 rfl) rfl
theorem qs39 : (Cond.selects "TrailerYardsModel" ⟨"TrailerYardsModel", "trailerTells", "(II)I"⟩ ⟨"TrailerYardsModel", "trailerTells", "(II)I"⟩) ∈ lw_all := lw_g (lw_at lw_ms 39 rfl) rfl
theorem qs40 : (Cond.selects "TrailerYardsModel" ⟨"TrailerYardsModel", "ask", "(II)I"⟩ ⟨"TrailerYardsModel", "ask", "(II)I"⟩) ∈ lw_all := lw_g (lw_at lw_ms 40 rfl) rfl
theorem qs41 : (Cond.selects "TrailerYardsModel" ⟨"TrailerYardsModel", "isCold", "(I)Z"⟩ ⟨"TrailerYardsModel", "isCold", "(I)Z"⟩) ∈ lw_all := lw_g (lw_at lw_ms 41 rfl) rfl
theorem qs42 : (Cond.selects "TrailerYardsModel" ⟨"TrailerYardsModel", "entryFrom", "(II)I"⟩ ⟨"TrailerYardsModel", "entryFrom", "(II)I"⟩) ∈ lw_all := lw_g (lw_at lw_ms 42 rfl) rfl
theorem qs43 : (Cond.selects "TrailerYardsModel" ⟨"TrailerYardsModel", "isOnWay", "(I)Z"⟩ ⟨"TrailerYardsModel", "isOnWay", "(I)Z"⟩) ∈ lw_all := lw_g (lw_at lw_ms 43 rfl) rfl
theorem qs44 : (Cond.selects "TrailerYardsModel" ⟨"TrailerYardsModel", "inForce", "(IIII)I"⟩ ⟨"TrailerYardsModel", "inForce", "(IIII)I"⟩) ∈ lw_all := lw_g (lw_at lw_ms 44 rfl) rfl
theorem qs45 : (Cond.selects "TrailerYardsModel" ⟨"TrailerYardsModel", "tractorTells", "(II)I"⟩ ⟨"TrailerYardsModel", "tractorTells", "(II)I"⟩) ∈ lw_all := lw_g (lw_at lw_ms 45 rfl) rfl
theorem qs46 : (Cond.selects "TrailerYardsModel" ⟨"TrailerYardsModel", "reads", "(I)I"⟩ ⟨"TrailerYardsModel", "reads", "(I)I"⟩) ∈ lw_all := lw_g (lw_at lw_ms 46 rfl) rfl
theorem qs47 : (Cond.selects "TrailerYardsModel" ⟨"TrailerYardsModel", "liesOn", "(IIZ)J"⟩ ⟨"TrailerYardsModel", "liesOn", "(IIZ)J"⟩) ∈ lw_all := lw_g (lw_at lw_ms 47 rfl) rfl
theorem qs48 : (Cond.selects "TrailerYardsModel" ⟨"TrailerYardsModel", "sumOf", "(IZ)J"⟩ ⟨"TrailerYardsModel", "sumOf", "(IZ)J"⟩) ∈ lw_all := lw_g (lw_at lw_ms 48 rfl) rfl
theorem qs49 : (Cond.selects "TrailerYardsModel" ⟨"TrailerYardsModel", "share", "(JJ)I"⟩ ⟨"TrailerYardsModel", "share", "(JJ)I"⟩) ∈ lw_all := lw_g (lw_at lw_ms 49 rfl) rfl
theorem qs50 : (Cond.selects "TrailerYardsModel" ⟨"TrailerYardsModel", "isLawful", "(II)Z"⟩ ⟨"TrailerYardsModel", "isLawful", "(II)Z"⟩) ∈ lw_all := lw_g (lw_at lw_ms 50 rfl) rfl
theorem qs51 : (Cond.selects "TrailerYardsModel" ⟨"TrailerYardsModel", "findTheft", "(I)Z"⟩ ⟨"TrailerYardsModel", "findTheft", "(I)Z"⟩) ∈ lw_all := lw_g (lw_at lw_ms 51 rfl) rfl
theorem qs52 : (Cond.selects "TrailerYardsModel" ⟨"TrailerYardsModel", "maySwap", "(I)Z"⟩ ⟨"TrailerYardsModel", "maySwap", "(I)Z"⟩) ∈ lw_all := lw_g (lw_at lw_ms 52 rfl) rfl
theorem qs53 : (Cond.selects "TrailerYardsModel" ⟨"TrailerYardsModel", "bestSwap", "(IIII)I"⟩ ⟨"TrailerYardsModel", "bestSwap", "(IIII)I"⟩) ∈ lw_all := lw_g (lw_at lw_ms 53 rfl) rfl
theorem qs54 : (Cond.selects "TrailerYardsModel" ⟨"TrailerYardsModel", "swapsAt", "(IIIIII)Z"⟩ ⟨"TrailerYardsModel", "swapsAt", "(IIIIII)Z"⟩) ∈ lw_all := lw_g (lw_at lw_ms 54 rfl) rfl
theorem qs55 : (Cond.selects "TrailerYardsModel" ⟨"TrailerYardsModel", "partWays", "(III)I"⟩ ⟨"TrailerYardsModel", "partWays", "(III)I"⟩) ∈ lw_all := lw_g (lw_at lw_ms 55 rfl) rfl
theorem qs56 : (Cond.selects "TrailerYardsModel" ⟨"TrailerYardsModel", "pairEnd", "(III)I"⟩ ⟨"TrailerYardsModel", "pairEnd", "(III)I"⟩) ∈ lw_all := lw_g (lw_at lw_ms 56 rfl) rfl
theorem qs57 : (Cond.selects "TrailerYardsModel" ⟨"TrailerYardsModel", "yardsOf", "(I)I"⟩ ⟨"TrailerYardsModel", "yardsOf", "(I)I"⟩) ∈ lw_all := lw_g (lw_at lw_ms 57 rfl) rfl
theorem qs58 : (Cond.selects "TrailerYardsModel" ⟨"TrailerYardsModel", "nextOrder", "(I)Z"⟩ ⟨"TrailerYardsModel", "nextOrder", "(I)Z"⟩) ∈ lw_all := lw_g (lw_at lw_ms 58 rfl) rfl
theorem qs59 : (Cond.selects "TrailerYardsModel" ⟨"TrailerYardsModel", "nextBrought", "()I"⟩ ⟨"TrailerYardsModel", "nextBrought", "()I"⟩) ∈ lw_all := lw_g (lw_at lw_ms 59 rfl) rfl
theorem qs60 : (Cond.selects "TrailerYardsModel" ⟨"TrailerYardsModel", "counts", "(I)I"⟩ ⟨"TrailerYardsModel", "counts", "(I)I"⟩) ∈ lw_all := lw_g (lw_at lw_ms 60 rfl) rfl
theorem qs61 : (Cond.selects "TrailerYardsModel" ⟨"TrailerYardsModel", "mix", "(I)V"⟩ ⟨"TrailerYardsModel", "mix", "(I)V"⟩) ∈ lw_all := lw_g (lw_at lw_ms 61 rfl) rfl
