-- ===== PART A: goes FIRST, ahead of the names: the tables' words, and 'selects' of the private methods out of them =====
/-- a private method of a class that the tables say can be made, by its rows of tables_1 -/
def lw_okq (q : MethodName × Nat) : Prop := (q.1.cls ≠ "java/lang/invoke/MethodHandle" ∧ q.1.cls ≠ "java/lang/invoke/VarHandle") ∧ Cond.instantiable q.1.cls q.2 ∈ tables_1 ∧ Cond.privateMethod q.1 ∈ tables_1 ∧ Cond.instanceMethod q.1 ∈ tables_1
set_option maxRecDepth 100000
theorem lw_t1 {w : Cond} (h : w ∈ tables_1_1) : w ∈ tables_1 := List.mem_append_left _ h
theorem lw_t2 {w : Cond} (h : w ∈ tables_1_2) : w ∈ tables_1 := List.mem_append_right _ (List.mem_append_left _ h)
theorem lw_t3 {w : Cond} (h : w ∈ tables_1_3) : w ∈ tables_1 := List.mem_append_right _ (List.mem_append_right _ (List.mem_append_left _ h))
theorem lw_t4 {w : Cond} (h : w ∈ tables_1_4) : w ∈ tables_1 := List.mem_append_right _ (List.mem_append_right _ (List.mem_append_right _ (List.mem_append_left _ h)))
theorem lw_t5 {w : Cond} (h : w ∈ tables_1_5) : w ∈ tables_1 := List.mem_append_right _ (List.mem_append_right _ (List.mem_append_right _ (List.mem_append_right _ (List.mem_append_left _ h))))
theorem lw_t6 {w : Cond} (h : w ∈ tables_1_6) : w ∈ tables_1 := List.mem_append_right _ (List.mem_append_right _ (List.mem_append_right _ (List.mem_append_right _ (List.mem_append_right _ (List.mem_append_left _ h)))))
theorem lw_t7 {w : Cond} (h : w ∈ tables_1_7) : w ∈ tables_1 := List.mem_append_right _ (List.mem_append_right _ (List.mem_append_right _ (List.mem_append_right _ (List.mem_append_right _ (List.mem_append_right _ h)))))
theorem lw_p0 : lw_okq (⟨"LastSpeakers", "feeds", "(I)V"⟩, 27) := ⟨⟨by decide +kernel, by decide +kernel⟩, lw_t1 (List.mem_of_getElem? (i := 31) rfl), lw_t1 (List.mem_of_getElem? (i := 29) rfl), lw_t1 (List.mem_of_getElem? (i := 30) rfl)⟩
theorem lw_p1 : lw_okq (⟨"LastSpeakers$Reader", "next", "()V"⟩, 9) := ⟨⟨by decide +kernel, by decide +kernel⟩, lw_t1 (List.mem_of_getElem? (i := 45) rfl), lw_t1 (List.mem_of_getElem? (i := 167) rfl), lw_t1 (List.mem_of_getElem? (i := 168) rfl)⟩
theorem lw_p2 : lw_okq (⟨"LastSpeakers$Reader", "isBetween", "(III)Z"⟩, 9) := ⟨⟨by decide +kernel, by decide +kernel⟩, lw_t1 (List.mem_of_getElem? (i := 45) rfl), lw_t1 (List.mem_of_getElem? (i := 171) rfl), lw_t1 (List.mem_of_getElem? (i := 172) rfl)⟩
theorem lw_p3 : lw_okq (⟨"LastSpeakers$Reader", "line", "()Z"⟩, 9) := ⟨⟨by decide +kernel, by decide +kernel⟩, lw_t1 (List.mem_of_getElem? (i := 45) rfl), lw_t1 (List.mem_of_getElem? (i := 175) rfl), lw_t1 (List.mem_of_getElem? (i := 176) rfl)⟩
theorem lw_p4 : lw_okq (⟨"LastSpeakers$Reader", "wordHere", "()I"⟩, 9) := ⟨⟨by decide +kernel, by decide +kernel⟩, lw_t1 (List.mem_of_getElem? (i := 45) rfl), lw_t1 (List.mem_of_getElem? (i := 179) rfl), lw_t1 (List.mem_of_getElem? (i := 180) rfl)⟩
theorem lw_p5 : lw_okq (⟨"LastSpeakers$Reader", "isWord", "(Ljava/lang/String;)Z"⟩, 9) := ⟨⟨by decide +kernel, by decide +kernel⟩, lw_t1 (List.mem_of_getElem? (i := 45) rfl), lw_t1 (List.mem_of_getElem? (i := 183) rfl), lw_t1 (List.mem_of_getElem? (i := 184) rfl)⟩
theorem lw_p6 : lw_okq (⟨"LastSpeakers$Reader", "hasRoom", "(I)Z"⟩, 9) := ⟨⟨by decide +kernel, by decide +kernel⟩, lw_t1 (List.mem_of_getElem? (i := 45) rfl), lw_t1 (List.mem_of_getElem? (i := 235) rfl), lw_t1 (List.mem_of_getElem? (i := 236) rfl)⟩
theorem lw_p7 : lw_okq (⟨"LastSpeakers$Reader", "passes", "(Z)Z"⟩, 9) := ⟨⟨by decide +kernel, by decide +kernel⟩, lw_t1 (List.mem_of_getElem? (i := 45) rfl), lw_t2 (List.mem_of_getElem? (i := 3) rfl), lw_t2 (List.mem_of_getElem? (i := 4) rfl)⟩
theorem lw_p8 : lw_okq (⟨"LastSpeakers$Reader", "told", "(I)Z"⟩, 9) := ⟨⟨by decide +kernel, by decide +kernel⟩, lw_t1 (List.mem_of_getElem? (i := 45) rfl), lw_t2 (List.mem_of_getElem? (i := 7) rfl), lw_t2 (List.mem_of_getElem? (i := 8) rfl)⟩
theorem lw_p9 : lw_okq (⟨"LastSpeakers$Reader", "thing", "()Z"⟩, 9) := ⟨⟨by decide +kernel, by decide +kernel⟩, lw_t1 (List.mem_of_getElem? (i := 45) rfl), lw_t2 (List.mem_of_getElem? (i := 11) rfl), lw_t2 (List.mem_of_getElem? (i := 12) rfl)⟩
theorem lw_p10 : lw_okq (⟨"LastSpeakers$Reader", "name", "()J"⟩, 9) := ⟨⟨by decide +kernel, by decide +kernel⟩, lw_t1 (List.mem_of_getElem? (i := 45) rfl), lw_t2 (List.mem_of_getElem? (i := 15) rfl), lw_t2 (List.mem_of_getElem? (i := 16) rfl)⟩
theorem lw_p11 : lw_okq (⟨"LastSpeakers$Reader", "number", "(II)Z"⟩, 9) := ⟨⟨by decide +kernel, by decide +kernel⟩, lw_t1 (List.mem_of_getElem? (i := 45) rfl), lw_t2 (List.mem_of_getElem? (i := 26) rfl), lw_t2 (List.mem_of_getElem? (i := 27) rfl)⟩
theorem lw_p12 : lw_okq (⟨"java/util/ArrayList", "add", "(Ljava/lang/Object;[Ljava/lang/Object;I)V"⟩, 3) := ⟨⟨by decide +kernel, by decide +kernel⟩, lw_t1 (List.mem_of_getElem? (i := 68) rfl), lw_t2 (List.mem_of_getElem? (i := 67) rfl), lw_t2 (List.mem_of_getElem? (i := 68) rfl)⟩
theorem lw_p13 : lw_okq (⟨"java/util/ArrayList", "grow", "()[Ljava/lang/Object;"⟩, 3) := ⟨⟨by decide +kernel, by decide +kernel⟩, lw_t1 (List.mem_of_getElem? (i := 68) rfl), lw_t2 (List.mem_of_getElem? (i := 71) rfl), lw_t2 (List.mem_of_getElem? (i := 72) rfl)⟩
theorem lw_p14 : lw_okq (⟨"java/util/ArrayList", "grow", "(I)[Ljava/lang/Object;"⟩, 3) := ⟨⟨by decide +kernel, by decide +kernel⟩, lw_t1 (List.mem_of_getElem? (i := 68) rfl), lw_t2 (List.mem_of_getElem? (i := 75) rfl), lw_t2 (List.mem_of_getElem? (i := 76) rfl)⟩
theorem lw_p15 : lw_okq (⟨"LastSpeakers$Reader", "person", "()Z"⟩, 9) := ⟨⟨by decide +kernel, by decide +kernel⟩, lw_t1 (List.mem_of_getElem? (i := 45) rfl), lw_t2 (List.mem_of_getElem? (i := 119) rfl), lw_t2 (List.mem_of_getElem? (i := 120) rfl)⟩
def lw_privs_1 : List (MethodName × Nat) := [(⟨"LastSpeakers", "feeds", "(I)V"⟩, 27), (⟨"LastSpeakers$Reader", "next", "()V"⟩, 9), (⟨"LastSpeakers$Reader", "isBetween", "(III)Z"⟩, 9), (⟨"LastSpeakers$Reader", "line", "()Z"⟩, 9), (⟨"LastSpeakers$Reader", "wordHere", "()I"⟩, 9), (⟨"LastSpeakers$Reader", "isWord", "(Ljava/lang/String;)Z"⟩, 9), (⟨"LastSpeakers$Reader", "hasRoom", "(I)Z"⟩, 9), (⟨"LastSpeakers$Reader", "passes", "(Z)Z"⟩, 9), (⟨"LastSpeakers$Reader", "told", "(I)Z"⟩, 9), (⟨"LastSpeakers$Reader", "thing", "()Z"⟩, 9), (⟨"LastSpeakers$Reader", "name", "()J"⟩, 9), (⟨"LastSpeakers$Reader", "number", "(II)Z"⟩, 9), (⟨"java/util/ArrayList", "add", "(Ljava/lang/Object;[Ljava/lang/Object;I)V"⟩, 3), (⟨"java/util/ArrayList", "grow", "()[Ljava/lang/Object;"⟩, 3), (⟨"java/util/ArrayList", "grow", "(I)[Ljava/lang/Object;"⟩, 3), (⟨"LastSpeakers$Reader", "person", "()Z"⟩, 9)]
theorem lw_r1 : ∀ q ∈ lw_privs_1, lw_okq q := List.forall_mem_cons.mpr ⟨lw_p0, List.forall_mem_cons.mpr ⟨lw_p1, List.forall_mem_cons.mpr ⟨lw_p2, List.forall_mem_cons.mpr ⟨lw_p3, List.forall_mem_cons.mpr ⟨lw_p4, List.forall_mem_cons.mpr ⟨lw_p5, List.forall_mem_cons.mpr ⟨lw_p6, List.forall_mem_cons.mpr ⟨lw_p7, List.forall_mem_cons.mpr ⟨lw_p8, List.forall_mem_cons.mpr ⟨lw_p9, List.forall_mem_cons.mpr ⟨lw_p10, List.forall_mem_cons.mpr ⟨lw_p11, List.forall_mem_cons.mpr ⟨lw_p12, List.forall_mem_cons.mpr ⟨lw_p13, List.forall_mem_cons.mpr ⟨lw_p14, List.forall_mem_cons.mpr ⟨lw_p15, fun _ h => absurd h List.not_mem_nil⟩⟩⟩⟩⟩⟩⟩⟩⟩⟩⟩⟩⟩⟩⟩⟩
theorem lw_p16 : lw_okq (⟨"LastSpeakers$Reader", "knows", "()Z"⟩, 9) := ⟨⟨by decide +kernel, by decide +kernel⟩, lw_t1 (List.mem_of_getElem? (i := 45) rfl), lw_t2 (List.mem_of_getElem? (i := 151) rfl), lw_t2 (List.mem_of_getElem? (i := 152) rfl)⟩
theorem lw_p17 : lw_okq (⟨"LastSpeakers$Reader", "found", "()I"⟩, 9) := ⟨⟨by decide +kernel, by decide +kernel⟩, lw_t1 (List.mem_of_getElem? (i := 45) rfl), lw_t2 (List.mem_of_getElem? (i := 155) rfl), lw_t2 (List.mem_of_getElem? (i := 156) rfl)⟩
theorem lw_p18 : lw_okq (⟨"LastSpeakers$Reader", "thingHere", "()I"⟩, 9) := ⟨⟨by decide +kernel, by decide +kernel⟩, lw_t1 (List.mem_of_getElem? (i := 45) rfl), lw_t2 (List.mem_of_getElem? (i := 171) rfl), lw_t2 (List.mem_of_getElem? (i := 172) rfl)⟩
theorem lw_p19 : lw_okq (⟨"LastSpeakers$Reader", "leans", "()Z"⟩, 9) := ⟨⟨by decide +kernel, by decide +kernel⟩, lw_t1 (List.mem_of_getElem? (i := 45) rfl), lw_t2 (List.mem_of_getElem? (i := 179) rfl), lw_t2 (List.mem_of_getElem? (i := 180) rfl)⟩
theorem lw_p20 : lw_okq (⟨"LastSpeakers$Reader", "reminds", "()Z"⟩, 9) := ⟨⟨by decide +kernel, by decide +kernel⟩, lw_t1 (List.mem_of_getElem? (i := 45) rfl), lw_t2 (List.mem_of_getElem? (i := 183) rfl), lw_t2 (List.mem_of_getElem? (i := 184) rfl)⟩
theorem lw_p21 : lw_okq (⟨"LastSpeakers$Reader", "follows", "()Z"⟩, 9) := ⟨⟨by decide +kernel, by decide +kernel⟩, lw_t1 (List.mem_of_getElem? (i := 45) rfl), lw_t2 (List.mem_of_getElem? (i := 187) rfl), lw_t2 (List.mem_of_getElem? (i := 188) rfl)⟩
theorem lw_p22 : lw_okq (⟨"LastSpeakers$Reader", "isSign", "(I)Z"⟩, 9) := ⟨⟨by decide +kernel, by decide +kernel⟩, lw_t1 (List.mem_of_getElem? (i := 45) rfl), lw_t2 (List.mem_of_getElem? (i := 191) rfl), lw_t2 (List.mem_of_getElem? (i := 192) rfl)⟩
theorem lw_p23 : lw_okq (⟨"LastSpeakers", "isThing", "(I)Z"⟩, 27) := ⟨⟨by decide +kernel, by decide +kernel⟩, lw_t1 (List.mem_of_getElem? (i := 31) rfl), lw_t3 (List.mem_of_getElem? (i := 171) rfl), lw_t3 (List.mem_of_getElem? (i := 172) rfl)⟩
theorem lw_p24 : lw_okq (⟨"LastSpeakers", "many", "()I"⟩, 27) := ⟨⟨by decide +kernel, by decide +kernel⟩, lw_t1 (List.mem_of_getElem? (i := 31) rfl), lw_t3 (List.mem_of_getElem? (i := 175) rfl), lw_t3 (List.mem_of_getElem? (i := 176) rfl)⟩
theorem lw_p25 : lw_okq (⟨"LastSpeakers", "at", "(I)LLastSpeakers$Thing;"⟩, 27) := ⟨⟨by decide +kernel, by decide +kernel⟩, lw_t1 (List.mem_of_getElem? (i := 31) rfl), lw_t3 (List.mem_of_getElem? (i := 179) rfl), lw_t3 (List.mem_of_getElem? (i := 180) rfl)⟩
theorem lw_p26 : lw_okq (⟨"LastSpeakers", "isHad", "(I)Z"⟩, 27) := ⟨⟨by decide +kernel, by decide +kernel⟩, lw_t1 (List.mem_of_getElem? (i := 31) rfl), lw_t3 (List.mem_of_getElem? (i := 185) rfl), lw_t3 (List.mem_of_getElem? (i := 186) rfl)⟩
theorem lw_p27 : lw_okq (⟨"LastSpeakers", "isPerson", "(I)Z"⟩, 27) := ⟨⟨by decide +kernel, by decide +kernel⟩, lw_t1 (List.mem_of_getElem? (i := 31) rfl), lw_t3 (List.mem_of_getElem? (i := 193) rfl), lw_t3 (List.mem_of_getElem? (i := 194) rfl)⟩
theorem lw_p28 : lw_okq (⟨"LastSpeakers", "who", "(I)LLastSpeakers$Person;"⟩, 27) := ⟨⟨by decide +kernel, by decide +kernel⟩, lw_t1 (List.mem_of_getElem? (i := 31) rfl), lw_t3 (List.mem_of_getElem? (i := 197) rfl), lw_t3 (List.mem_of_getElem? (i := 198) rfl)⟩
theorem lw_p29 : lw_okq (⟨"LastSpeakers", "isHeap", "(I)Z"⟩, 27) := ⟨⟨by decide +kernel, by decide +kernel⟩, lw_t1 (List.mem_of_getElem? (i := 31) rfl), lw_t3 (List.mem_of_getElem? (i := 211) rfl), lw_t3 (List.mem_of_getElem? (i := 212) rfl)⟩
theorem lw_p30 : lw_okq (⟨"LastSpeakers", "brings", "(I)I"⟩, 27) := ⟨⟨by decide +kernel, by decide +kernel⟩, lw_t1 (List.mem_of_getElem? (i := 31) rfl), lw_t3 (List.mem_of_getElem? (i := 230) rfl), lw_t3 (List.mem_of_getElem? (i := 231) rfl)⟩
theorem lw_p31 : lw_okq (⟨"LastSpeakers", "passes", "(I)V"⟩, 27) := ⟨⟨by decide +kernel, by decide +kernel⟩, lw_t1 (List.mem_of_getElem? (i := 31) rfl), lw_t4 (List.mem_of_getElem? (i := 15) rfl), lw_t4 (List.mem_of_getElem? (i := 16) rfl)⟩
def lw_privs_2 : List (MethodName × Nat) := [(⟨"LastSpeakers$Reader", "knows", "()Z"⟩, 9), (⟨"LastSpeakers$Reader", "found", "()I"⟩, 9), (⟨"LastSpeakers$Reader", "thingHere", "()I"⟩, 9), (⟨"LastSpeakers$Reader", "leans", "()Z"⟩, 9), (⟨"LastSpeakers$Reader", "reminds", "()Z"⟩, 9), (⟨"LastSpeakers$Reader", "follows", "()Z"⟩, 9), (⟨"LastSpeakers$Reader", "isSign", "(I)Z"⟩, 9), (⟨"LastSpeakers", "isThing", "(I)Z"⟩, 27), (⟨"LastSpeakers", "many", "()I"⟩, 27), (⟨"LastSpeakers", "at", "(I)LLastSpeakers$Thing;"⟩, 27), (⟨"LastSpeakers", "isHad", "(I)Z"⟩, 27), (⟨"LastSpeakers", "isPerson", "(I)Z"⟩, 27), (⟨"LastSpeakers", "who", "(I)LLastSpeakers$Person;"⟩, 27), (⟨"LastSpeakers", "isHeap", "(I)Z"⟩, 27), (⟨"LastSpeakers", "brings", "(I)I"⟩, 27), (⟨"LastSpeakers", "passes", "(I)V"⟩, 27)]
theorem lw_r2 : ∀ q ∈ lw_privs_2, lw_okq q := List.forall_mem_cons.mpr ⟨lw_p16, List.forall_mem_cons.mpr ⟨lw_p17, List.forall_mem_cons.mpr ⟨lw_p18, List.forall_mem_cons.mpr ⟨lw_p19, List.forall_mem_cons.mpr ⟨lw_p20, List.forall_mem_cons.mpr ⟨lw_p21, List.forall_mem_cons.mpr ⟨lw_p22, List.forall_mem_cons.mpr ⟨lw_p23, List.forall_mem_cons.mpr ⟨lw_p24, List.forall_mem_cons.mpr ⟨lw_p25, List.forall_mem_cons.mpr ⟨lw_p26, List.forall_mem_cons.mpr ⟨lw_p27, List.forall_mem_cons.mpr ⟨lw_p28, List.forall_mem_cons.mpr ⟨lw_p29, List.forall_mem_cons.mpr ⟨lw_p30, List.forall_mem_cons.mpr ⟨lw_p31, fun _ h => absurd h List.not_mem_nil⟩⟩⟩⟩⟩⟩⟩⟩⟩⟩⟩⟩⟩⟩⟩⟩
theorem lw_p32 : lw_okq (⟨"LastSpeakers", "lot", "(I)I"⟩, 27) := ⟨⟨by decide +kernel, by decide +kernel⟩, lw_t1 (List.mem_of_getElem? (i := 31) rfl), lw_t4 (List.mem_of_getElem? (i := 19) rfl), lw_t4 (List.mem_of_getElem? (i := 20) rfl)⟩
theorem lw_p33 : lw_okq (⟨"LastSpeakers", "mayNow", "(II)Z"⟩, 27) := ⟨⟨by decide +kernel, by decide +kernel⟩, lw_t1 (List.mem_of_getElem? (i := 31) rfl), lw_t4 (List.mem_of_getElem? (i := 31) rfl), lw_t4 (List.mem_of_getElem? (i := 32) rfl)⟩
theorem lw_p34 : lw_okq (⟨"LastSpeakers", "canLean", "(II)Z"⟩, 27) := ⟨⟨by decide +kernel, by decide +kernel⟩, lw_t1 (List.mem_of_getElem? (i := 31) rfl), lw_t4 (List.mem_of_getElem? (i := 35) rfl), lw_t4 (List.mem_of_getElem? (i := 36) rfl)⟩
theorem lw_p35 : lw_okq (⟨"LastSpeakers", "spoon", "(LLastSpeakers$Person;)I"⟩, 27) := ⟨⟨by decide +kernel, by decide +kernel⟩, lw_t1 (List.mem_of_getElem? (i := 31) rfl), lw_t4 (List.mem_of_getElem? (i := 43) rfl), lw_t4 (List.mem_of_getElem? (i := 44) rfl)⟩
theorem lw_p36 : lw_okq (⟨"LastSpeakers", "notes", "(III)V"⟩, 27) := ⟨⟨by decide +kernel, by decide +kernel⟩, lw_t1 (List.mem_of_getElem? (i := 31) rfl), lw_t4 (List.mem_of_getElem? (i := 47) rfl), lw_t4 (List.mem_of_getElem? (i := 48) rfl)⟩
theorem lw_p37 : lw_okq (⟨"LastSpeakers", "areHours", "(I)Z"⟩, 27) := ⟨⟨by decide +kernel, by decide +kernel⟩, lw_t1 (List.mem_of_getElem? (i := 31) rfl), lw_t4 (List.mem_of_getElem? (i := 63) rfl), lw_t4 (List.mem_of_getElem? (i := 64) rfl)⟩
theorem lw_p38 : lw_okq (⟨"LastSpeakers", "findsBest", "(II)V"⟩, 27) := ⟨⟨by decide +kernel, by decide +kernel⟩, lw_t1 (List.mem_of_getElem? (i := 31) rfl), lw_t4 (List.mem_of_getElem? (i := 69) rfl), lw_t4 (List.mem_of_getElem? (i := 70) rfl)⟩
theorem lw_p39 : lw_okq (⟨"LastSpeakers", "known", "()I"⟩, 27) := ⟨⟨by decide +kernel, by decide +kernel⟩, lw_t1 (List.mem_of_getElem? (i := 31) rfl), lw_t4 (List.mem_of_getElem? (i := 73) rfl), lw_t4 (List.mem_of_getElem? (i := 74) rfl)⟩
theorem lw_p40 : lw_okq (⟨"LastSpeakers", "isLast", "(IIII)Z"⟩, 27) := ⟨⟨by decide +kernel, by decide +kernel⟩, lw_t1 (List.mem_of_getElem? (i := 31) rfl), lw_t4 (List.mem_of_getElem? (i := 77) rfl), lw_t4 (List.mem_of_getElem? (i := 78) rfl)⟩
theorem lw_p41 : lw_okq (⟨"LastSpeakers", "lostNow", "()I"⟩, 27) := ⟨⟨by decide +kernel, by decide +kernel⟩, lw_t1 (List.mem_of_getElem? (i := 31) rfl), lw_t4 (List.mem_of_getElem? (i := 97) rfl), lw_t4 (List.mem_of_getElem? (i := 98) rfl)⟩
theorem lw_p42 : lw_okq (⟨"LastSpeakers", "areLeft", "(I)Z"⟩, 27) := ⟨⟨by decide +kernel, by decide +kernel⟩, lw_t1 (List.mem_of_getElem? (i := 31) rfl), lw_t4 (List.mem_of_getElem? (i := 105) rfl), lw_t4 (List.mem_of_getElem? (i := 106) rfl)⟩
theorem lw_p43 : lw_okq (⟨"LastSpeakers", "values", "(I)V"⟩, 27) := ⟨⟨by decide +kernel, by decide +kernel⟩, lw_t1 (List.mem_of_getElem? (i := 31) rfl), lw_t4 (List.mem_of_getElem? (i := 110) rfl), lw_t4 (List.mem_of_getElem? (i := 111) rfl)⟩
theorem lw_p44 : lw_okq (⟨"LastSpeakers", "valueOf", "(III)I"⟩, 27) := ⟨⟨by decide +kernel, by decide +kernel⟩, lw_t1 (List.mem_of_getElem? (i := 31) rfl), lw_t4 (List.mem_of_getElem? (i := 114) rfl), lw_t4 (List.mem_of_getElem? (i := 115) rfl)⟩
theorem lw_p45 : lw_okq (⟨"LastSpeakers", "asked", "(IIIII)I"⟩, 27) := ⟨⟨by decide +kernel, by decide +kernel⟩, lw_t1 (List.mem_of_getElem? (i := 31) rfl), lw_t4 (List.mem_of_getElem? (i := 118) rfl), lw_t4 (List.mem_of_getElem? (i := 119) rfl)⟩
theorem lw_p46 : lw_okq (⟨"LastSpeakers", "mean", "(IIIZ)I"⟩, 27) := ⟨⟨by decide +kernel, by decide +kernel⟩, lw_t1 (List.mem_of_getElem? (i := 31) rfl), lw_t4 (List.mem_of_getElem? (i := 122) rfl), lw_t4 (List.mem_of_getElem? (i := 123) rfl)⟩
theorem lw_p47 : lw_okq (⟨"LastSpeakers", "thereNow", "()I"⟩, 27) := ⟨⟨by decide +kernel, by decide +kernel⟩, lw_t1 (List.mem_of_getElem? (i := 31) rfl), lw_t4 (List.mem_of_getElem? (i := 127) rfl), lw_t4 (List.mem_of_getElem? (i := 128) rfl)⟩
def lw_privs_3 : List (MethodName × Nat) := [(⟨"LastSpeakers", "lot", "(I)I"⟩, 27), (⟨"LastSpeakers", "mayNow", "(II)Z"⟩, 27), (⟨"LastSpeakers", "canLean", "(II)Z"⟩, 27), (⟨"LastSpeakers", "spoon", "(LLastSpeakers$Person;)I"⟩, 27), (⟨"LastSpeakers", "notes", "(III)V"⟩, 27), (⟨"LastSpeakers", "areHours", "(I)Z"⟩, 27), (⟨"LastSpeakers", "findsBest", "(II)V"⟩, 27), (⟨"LastSpeakers", "known", "()I"⟩, 27), (⟨"LastSpeakers", "isLast", "(IIII)Z"⟩, 27), (⟨"LastSpeakers", "lostNow", "()I"⟩, 27), (⟨"LastSpeakers", "areLeft", "(I)Z"⟩, 27), (⟨"LastSpeakers", "values", "(I)V"⟩, 27), (⟨"LastSpeakers", "valueOf", "(III)I"⟩, 27), (⟨"LastSpeakers", "asked", "(IIIII)I"⟩, 27), (⟨"LastSpeakers", "mean", "(IIIZ)I"⟩, 27), (⟨"LastSpeakers", "thereNow", "()I"⟩, 27)]
theorem lw_r3 : ∀ q ∈ lw_privs_3, lw_okq q := List.forall_mem_cons.mpr ⟨lw_p32, List.forall_mem_cons.mpr ⟨lw_p33, List.forall_mem_cons.mpr ⟨lw_p34, List.forall_mem_cons.mpr ⟨lw_p35, List.forall_mem_cons.mpr ⟨lw_p36, List.forall_mem_cons.mpr ⟨lw_p37, List.forall_mem_cons.mpr ⟨lw_p38, List.forall_mem_cons.mpr ⟨lw_p39, List.forall_mem_cons.mpr ⟨lw_p40, List.forall_mem_cons.mpr ⟨lw_p41, List.forall_mem_cons.mpr ⟨lw_p42, List.forall_mem_cons.mpr ⟨lw_p43, List.forall_mem_cons.mpr ⟨lw_p44, List.forall_mem_cons.mpr ⟨lw_p45, List.forall_mem_cons.mpr ⟨lw_p46, List.forall_mem_cons.mpr ⟨lw_p47, fun _ h => absurd h List.not_mem_nil⟩⟩⟩⟩⟩⟩⟩⟩⟩⟩⟩⟩⟩⟩⟩⟩
theorem lw_p48 : lw_okq (⟨"LastSpeakers", "meanOfRow", "()I"⟩, 27) := ⟨⟨by decide +kernel, by decide +kernel⟩, lw_t1 (List.mem_of_getElem? (i := 31) rfl), lw_t4 (List.mem_of_getElem? (i := 147) rfl), lw_t4 (List.mem_of_getElem? (i := 148) rfl)⟩
theorem lw_p49 : lw_okq (⟨"LastSpeakers", "canTell", "(I)Z"⟩, 27) := ⟨⟨by decide +kernel, by decide +kernel⟩, lw_t1 (List.mem_of_getElem? (i := 31) rfl), lw_t4 (List.mem_of_getElem? (i := 151) rfl), lw_t4 (List.mem_of_getElem? (i := 152) rfl)⟩
theorem lw_p50 : lw_okq (⟨"LastSpeakers", "barred", "()I"⟩, 27) := ⟨⟨by decide +kernel, by decide +kernel⟩, lw_t1 (List.mem_of_getElem? (i := 31) rfl), lw_t4 (List.mem_of_getElem? (i := 156) rfl), lw_t4 (List.mem_of_getElem? (i := 157) rfl)⟩
theorem lw_p51 : lw_okq (⟨"LastSpeakers", "sure", "(I)I"⟩, 27) := ⟨⟨by decide +kernel, by decide +kernel⟩, lw_t1 (List.mem_of_getElem? (i := 31) rfl), lw_t4 (List.mem_of_getElem? (i := 180) rfl), lw_t4 (List.mem_of_getElem? (i := 181) rfl)⟩
theorem lw_p52 : lw_okq (⟨"LastSpeakers", "weight", "(II)I"⟩, 27) := ⟨⟨by decide +kernel, by decide +kernel⟩, lw_t1 (List.mem_of_getElem? (i := 31) rfl), lw_t4 (List.mem_of_getElem? (i := 184) rfl), lw_t4 (List.mem_of_getElem? (i := 185) rfl)⟩
theorem lw_p53 : lw_okq (⟨"LastSpeakers", "weightBy", "(III)I"⟩, 27) := ⟨⟨by decide +kernel, by decide +kernel⟩, lw_t1 (List.mem_of_getElem? (i := 31) rfl), lw_t4 (List.mem_of_getElem? (i := 188) rfl), lw_t4 (List.mem_of_getElem? (i := 189) rfl)⟩
theorem lw_p54 : lw_okq (⟨"LastSpeakers", "fill", "(I)I"⟩, 27) := ⟨⟨by decide +kernel, by decide +kernel⟩, lw_t1 (List.mem_of_getElem? (i := 31) rfl), lw_t4 (List.mem_of_getElem? (i := 192) rfl), lw_t4 (List.mem_of_getElem? (i := 193) rfl)⟩
theorem lw_p55 : lw_okq (⟨"LastSpeakers", "heardOf", "(II)I"⟩, 27) := ⟨⟨by decide +kernel, by decide +kernel⟩, lw_t1 (List.mem_of_getElem? (i := 31) rfl), lw_t4 (List.mem_of_getElem? (i := 202) rfl), lw_t4 (List.mem_of_getElem? (i := 203) rfl)⟩
theorem lw_p56 : lw_okq (⟨"LastSpeakersModel", "leads", "()V"⟩, 63) := ⟨⟨by decide +kernel, by decide +kernel⟩, lw_t4 (List.mem_of_getElem? (i := 234) rfl), lw_t5 (List.mem_of_getElem? (i := 206) rfl), lw_t5 (List.mem_of_getElem? (i := 207) rfl)⟩
theorem lw_p57 : lw_okq (⟨"LastSpeakersModel", "lineHere", "()Z"⟩, 63) := ⟨⟨by decide +kernel, by decide +kernel⟩, lw_t4 (List.mem_of_getElem? (i := 234) rfl), lw_t5 (List.mem_of_getElem? (i := 219) rfl), lw_t5 (List.mem_of_getElem? (i := 220) rfl)⟩
theorem lw_p58 : lw_okq (⟨"LastSpeakersModel", "isWord", "(Ljava/lang/String;)Z"⟩, 63) := ⟨⟨by decide +kernel, by decide +kernel⟩, lw_t4 (List.mem_of_getElem? (i := 234) rfl), lw_t5 (List.mem_of_getElem? (i := 224) rfl), lw_t5 (List.mem_of_getElem? (i := 225) rfl)⟩
theorem lw_p59 : lw_okq (⟨"LastSpeakersModel", "thingLine", "()Z"⟩, 63) := ⟨⟨by decide +kernel, by decide +kernel⟩, lw_t4 (List.mem_of_getElem? (i := 234) rfl), lw_t5 (List.mem_of_getElem? (i := 233) rfl), lw_t5 (List.mem_of_getElem? (i := 234) rfl)⟩
theorem lw_p60 : lw_okq (⟨"LastSpeakersModel", "isName", "()Z"⟩, 63) := ⟨⟨by decide +kernel, by decide +kernel⟩, lw_t4 (List.mem_of_getElem? (i := 234) rfl), lw_t5 (List.mem_of_getElem? (i := 237) rfl), lw_t5 (List.mem_of_getElem? (i := 238) rfl)⟩
theorem lw_p61 : lw_okq (⟨"LastSpeakersModel", "thingHere", "()I"⟩, 63) := ⟨⟨by decide +kernel, by decide +kernel⟩, lw_t4 (List.mem_of_getElem? (i := 234) rfl), lw_t6 (List.mem_of_getElem? (i := 7) rfl), lw_t6 (List.mem_of_getElem? (i := 8) rfl)⟩
theorem lw_p62 : lw_okq (⟨"LastSpeakersModel", "personHere", "()I"⟩, 63) := ⟨⟨by decide +kernel, by decide +kernel⟩, lw_t4 (List.mem_of_getElem? (i := 234) rfl), lw_t6 (List.mem_of_getElem? (i := 11) rfl), lw_t6 (List.mem_of_getElem? (i := 12) rfl)⟩
theorem lw_p63 : lw_okq (⟨"LastSpeakersModel", "number", "(II)Z"⟩, 63) := ⟨⟨by decide +kernel, by decide +kernel⟩, lw_t4 (List.mem_of_getElem? (i := 234) rfl), lw_t6 (List.mem_of_getElem? (i := 15) rfl), lw_t6 (List.mem_of_getElem? (i := 16) rfl)⟩
def lw_privs_4 : List (MethodName × Nat) := [(⟨"LastSpeakers", "meanOfRow", "()I"⟩, 27), (⟨"LastSpeakers", "canTell", "(I)Z"⟩, 27), (⟨"LastSpeakers", "barred", "()I"⟩, 27), (⟨"LastSpeakers", "sure", "(I)I"⟩, 27), (⟨"LastSpeakers", "weight", "(II)I"⟩, 27), (⟨"LastSpeakers", "weightBy", "(III)I"⟩, 27), (⟨"LastSpeakers", "fill", "(I)I"⟩, 27), (⟨"LastSpeakers", "heardOf", "(II)I"⟩, 27), (⟨"LastSpeakersModel", "leads", "()V"⟩, 63), (⟨"LastSpeakersModel", "lineHere", "()Z"⟩, 63), (⟨"LastSpeakersModel", "isWord", "(Ljava/lang/String;)Z"⟩, 63), (⟨"LastSpeakersModel", "thingLine", "()Z"⟩, 63), (⟨"LastSpeakersModel", "isName", "()Z"⟩, 63), (⟨"LastSpeakersModel", "thingHere", "()I"⟩, 63), (⟨"LastSpeakersModel", "personHere", "()I"⟩, 63), (⟨"LastSpeakersModel", "number", "(II)Z"⟩, 63)]
theorem lw_r4 : ∀ q ∈ lw_privs_4, lw_okq q := List.forall_mem_cons.mpr ⟨lw_p48, List.forall_mem_cons.mpr ⟨lw_p49, List.forall_mem_cons.mpr ⟨lw_p50, List.forall_mem_cons.mpr ⟨lw_p51, List.forall_mem_cons.mpr ⟨lw_p52, List.forall_mem_cons.mpr ⟨lw_p53, List.forall_mem_cons.mpr ⟨lw_p54, List.forall_mem_cons.mpr ⟨lw_p55, List.forall_mem_cons.mpr ⟨lw_p56, List.forall_mem_cons.mpr ⟨lw_p57, List.forall_mem_cons.mpr ⟨lw_p58, List.forall_mem_cons.mpr ⟨lw_p59, List.forall_mem_cons.mpr ⟨lw_p60, List.forall_mem_cons.mpr ⟨lw_p61, List.forall_mem_cons.mpr ⟨lw_p62, List.forall_mem_cons.mpr ⟨lw_p63, fun _ h => absurd h List.not_mem_nil⟩⟩⟩⟩⟩⟩⟩⟩⟩⟩⟩⟩⟩⟩⟩⟩
theorem lw_p64 : lw_okq (⟨"LastSpeakersModel", "closes", "()Z"⟩, 63) := ⟨⟨by decide +kernel, by decide +kernel⟩, lw_t4 (List.mem_of_getElem? (i := 234) rfl), lw_t6 (List.mem_of_getElem? (i := 19) rfl), lw_t6 (List.mem_of_getElem? (i := 20) rfl)⟩
theorem lw_p65 : lw_okq (⟨"LastSpeakersModel", "personLine", "()Z"⟩, 63) := ⟨⟨by decide +kernel, by decide +kernel⟩, lw_t4 (List.mem_of_getElem? (i := 234) rfl), lw_t6 (List.mem_of_getElem? (i := 23) rfl), lw_t6 (List.mem_of_getElem? (i := 24) rfl)⟩
theorem lw_p66 : lw_okq (⟨"LastSpeakersModel", "knowsLine", "()Z"⟩, 63) := ⟨⟨by decide +kernel, by decide +kernel⟩, lw_t4 (List.mem_of_getElem? (i := 234) rfl), lw_t6 (List.mem_of_getElem? (i := 27) rfl), lw_t6 (List.mem_of_getElem? (i := 28) rfl)⟩
theorem lw_p67 : lw_okq (⟨"LastSpeakersModel", "followLine", "()Z"⟩, 63) := ⟨⟨by decide +kernel, by decide +kernel⟩, lw_t4 (List.mem_of_getElem? (i := 234) rfl), lw_t6 (List.mem_of_getElem? (i := 31) rfl), lw_t6 (List.mem_of_getElem? (i := 32) rfl)⟩
theorem lw_p68 : lw_okq (⟨"LastSpeakersModel", "monthLine", "()Z"⟩, 63) := ⟨⟨by decide +kernel, by decide +kernel⟩, lw_t4 (List.mem_of_getElem? (i := 234) rfl), lw_t6 (List.mem_of_getElem? (i := 35) rfl), lw_t6 (List.mem_of_getElem? (i := 36) rfl)⟩
theorem lw_p69 : lw_okq (⟨"LastSpeakersModel", "coupleLine", "([I)Z"⟩, 63) := ⟨⟨by decide +kernel, by decide +kernel⟩, lw_t4 (List.mem_of_getElem? (i := 234) rfl), lw_t6 (List.mem_of_getElem? (i := 39) rfl), lw_t6 (List.mem_of_getElem? (i := 40) rfl)⟩
theorem lw_p70 : lw_okq (⟨"LastSpeakersModel", "isThing", "(I)Z"⟩, 63) := ⟨⟨by decide +kernel, by decide +kernel⟩, lw_t4 (List.mem_of_getElem? (i := 234) rfl), lw_t6 (List.mem_of_getElem? (i := 52) rfl), lw_t6 (List.mem_of_getElem? (i := 53) rfl)⟩
theorem lw_p71 : lw_okq (⟨"LastSpeakersModel", "worth", "(I)I"⟩, 63) := ⟨⟨by decide +kernel, by decide +kernel⟩, lw_t4 (List.mem_of_getElem? (i := 234) rfl), lw_t6 (List.mem_of_getElem? (i := 56) rfl), lw_t6 (List.mem_of_getElem? (i := 57) rfl)⟩
theorem lw_p72 : lw_okq (⟨"LastSpeakersModel", "hours", "(I)I"⟩, 63) := ⟨⟨by decide +kernel, by decide +kernel⟩, lw_t4 (List.mem_of_getElem? (i := 234) rfl), lw_t6 (List.mem_of_getElem? (i := 60) rfl), lw_t6 (List.mem_of_getElem? (i := 61) rfl)⟩
theorem lw_p73 : lw_okq (⟨"LastSpeakersModel", "isPerson", "(I)Z"⟩, 63) := ⟨⟨by decide +kernel, by decide +kernel⟩, lw_t4 (List.mem_of_getElem? (i := 234) rfl), lw_t6 (List.mem_of_getElem? (i := 71) rfl), lw_t6 (List.mem_of_getElem? (i := 72) rfl)⟩
theorem lw_p74 : lw_okq (⟨"LastSpeakersModel", "clearly", "(II)I"⟩, 63) := ⟨⟨by decide +kernel, by decide +kernel⟩, lw_t4 (List.mem_of_getElem? (i := 234) rfl), lw_t6 (List.mem_of_getElem? (i := 79) rfl), lw_t6 (List.mem_of_getElem? (i := 80) rfl)⟩
theorem lw_p75 : lw_okq (⟨"LastSpeakersModel", "isHeap", "(I)Z"⟩, 63) := ⟨⟨by decide +kernel, by decide +kernel⟩, lw_t4 (List.mem_of_getElem? (i := 234) rfl), lw_t6 (List.mem_of_getElem? (i := 87) rfl), lw_t6 (List.mem_of_getElem? (i := 88) rfl)⟩
theorem lw_p76 : lw_okq (⟨"LastSpeakersModel", "withFollows", "(II)I"⟩, 63) := ⟨⟨by decide +kernel, by decide +kernel⟩, lw_t4 (List.mem_of_getElem? (i := 234) rfl), lw_t6 (List.mem_of_getElem? (i := 91) rfl), lw_t6 (List.mem_of_getElem? (i := 92) rfl)⟩
theorem lw_p77 : lw_okq (⟨"LastSpeakersModel", "canAsk", "(II)Z"⟩, 63) := ⟨⟨by decide +kernel, by decide +kernel⟩, lw_t4 (List.mem_of_getElem? (i := 234) rfl), lw_t6 (List.mem_of_getElem? (i := 111) rfl), lw_t6 (List.mem_of_getElem? (i := 112) rfl)⟩
theorem lw_p78 : lw_okq (⟨"LastSpeakersModel", "draws", "(I)I"⟩, 63) := ⟨⟨by decide +kernel, by decide +kernel⟩, lw_t4 (List.mem_of_getElem? (i := 234) rfl), lw_t6 (List.mem_of_getElem? (i := 119) rfl), lw_t6 (List.mem_of_getElem? (i := 120) rfl)⟩
theorem lw_p79 : lw_okq (⟨"LastSpeakersModel", "worths", "(I)I"⟩, 63) := ⟨⟨by decide +kernel, by decide +kernel⟩, lw_t4 (List.mem_of_getElem? (i := 234) rfl), lw_t6 (List.mem_of_getElem? (i := 127) rfl), lw_t6 (List.mem_of_getElem? (i := 128) rfl)⟩
def lw_privs_5 : List (MethodName × Nat) := [(⟨"LastSpeakersModel", "closes", "()Z"⟩, 63), (⟨"LastSpeakersModel", "personLine", "()Z"⟩, 63), (⟨"LastSpeakersModel", "knowsLine", "()Z"⟩, 63), (⟨"LastSpeakersModel", "followLine", "()Z"⟩, 63), (⟨"LastSpeakersModel", "monthLine", "()Z"⟩, 63), (⟨"LastSpeakersModel", "coupleLine", "([I)Z"⟩, 63), (⟨"LastSpeakersModel", "isThing", "(I)Z"⟩, 63), (⟨"LastSpeakersModel", "worth", "(I)I"⟩, 63), (⟨"LastSpeakersModel", "hours", "(I)I"⟩, 63), (⟨"LastSpeakersModel", "isPerson", "(I)Z"⟩, 63), (⟨"LastSpeakersModel", "clearly", "(II)I"⟩, 63), (⟨"LastSpeakersModel", "isHeap", "(I)Z"⟩, 63), (⟨"LastSpeakersModel", "withFollows", "(II)I"⟩, 63), (⟨"LastSpeakersModel", "canAsk", "(II)Z"⟩, 63), (⟨"LastSpeakersModel", "draws", "(I)I"⟩, 63), (⟨"LastSpeakersModel", "worths", "(I)I"⟩, 63)]
theorem lw_r5 : ∀ q ∈ lw_privs_5, lw_okq q := List.forall_mem_cons.mpr ⟨lw_p64, List.forall_mem_cons.mpr ⟨lw_p65, List.forall_mem_cons.mpr ⟨lw_p66, List.forall_mem_cons.mpr ⟨lw_p67, List.forall_mem_cons.mpr ⟨lw_p68, List.forall_mem_cons.mpr ⟨lw_p69, List.forall_mem_cons.mpr ⟨lw_p70, List.forall_mem_cons.mpr ⟨lw_p71, List.forall_mem_cons.mpr ⟨lw_p72, List.forall_mem_cons.mpr ⟨lw_p73, List.forall_mem_cons.mpr ⟨lw_p74, List.forall_mem_cons.mpr ⟨lw_p75, List.forall_mem_cons.mpr ⟨lw_p76, List.forall_mem_cons.mpr ⟨lw_p77, List.forall_mem_cons.mpr ⟨lw_p78, List.forall_mem_cons.mpr ⟨lw_p79, fun _ h => absurd h List.not_mem_nil⟩⟩⟩⟩⟩⟩⟩⟩⟩⟩⟩⟩⟩⟩⟩⟩
theorem lw_p80 : lw_okq (⟨"LastSpeakersModel", "passes", "(I)V"⟩, 63) := ⟨⟨by decide +kernel, by decide +kernel⟩, lw_t4 (List.mem_of_getElem? (i := 234) rfl), lw_t6 (List.mem_of_getElem? (i := 131) rfl), lw_t6 (List.mem_of_getElem? (i := 132) rfl)⟩
theorem lw_p81 : lw_okq (⟨"LastSpeakersModel", "isSureTime", "(I)Z"⟩, 63) := ⟨⟨by decide +kernel, by decide +kernel⟩, lw_t4 (List.mem_of_getElem? (i := 234) rfl), lw_t6 (List.mem_of_getElem? (i := 147) rfl), lw_t6 (List.mem_of_getElem? (i := 148) rfl)⟩
theorem lw_p82 : lw_okq (⟨"LastSpeakersModel", "finds", "(I)V"⟩, 63) := ⟨⟨by decide +kernel, by decide +kernel⟩, lw_t4 (List.mem_of_getElem? (i := 234) rfl), lw_t6 (List.mem_of_getElem? (i := 151) rfl), lw_t6 (List.mem_of_getElem? (i := 152) rfl)⟩
theorem lw_p83 : lw_okq (⟨"LastSpeakersModel", "goesOn", "(II)Z"⟩, 63) := ⟨⟨by decide +kernel, by decide +kernel⟩, lw_t4 (List.mem_of_getElem? (i := 234) rfl), lw_t6 (List.mem_of_getElem? (i := 155) rfl), lw_t6 (List.mem_of_getElem? (i := 156) rfl)⟩
theorem lw_p84 : lw_okq (⟨"LastSpeakersModel", "somebodyKnows", "(I)Z"⟩, 63) := ⟨⟨by decide +kernel, by decide +kernel⟩, lw_t4 (List.mem_of_getElem? (i := 234) rfl), lw_t6 (List.mem_of_getElem? (i := 159) rfl), lw_t6 (List.mem_of_getElem? (i := 160) rfl)⟩
theorem lw_p85 : lw_okq (⟨"LastSpeakersModel", "bestHeap", "(I)I"⟩, 63) := ⟨⟨by decide +kernel, by decide +kernel⟩, lw_t4 (List.mem_of_getElem? (i := 234) rfl), lw_t6 (List.mem_of_getElem? (i := 163) rfl), lw_t6 (List.mem_of_getElem? (i := 164) rfl)⟩
theorem lw_p86 : lw_okq (⟨"LastSpeakersModel", "hoursOf", "(I)I"⟩, 63) := ⟨⟨by decide +kernel, by decide +kernel⟩, lw_t4 (List.mem_of_getElem? (i := 234) rfl), lw_t6 (List.mem_of_getElem? (i := 167) rfl), lw_t6 (List.mem_of_getElem? (i := 168) rfl)⟩
theorem lw_p87 : lw_okq (⟨"LastSpeakersModel", "isMeanTime", "(I)Z"⟩, 63) := ⟨⟨by decide +kernel, by decide +kernel⟩, lw_t4 (List.mem_of_getElem? (i := 234) rfl), lw_t6 (List.mem_of_getElem? (i := 179) rfl), lw_t6 (List.mem_of_getElem? (i := 180) rfl)⟩
theorem lw_p88 : lw_okq (⟨"LastSpeakersModel", "worksMean", "(I)V"⟩, 63) := ⟨⟨by decide +kernel, by decide +kernel⟩, lw_t4 (List.mem_of_getElem? (i := 234) rfl), lw_t6 (List.mem_of_getElem? (i := 183) rfl), lw_t6 (List.mem_of_getElem? (i := 184) rfl)⟩
theorem lw_p89 : lw_okq (⟨"LastSpeakersModel", "worthOf", "(IIIII)I"⟩, 63) := ⟨⟨by decide +kernel, by decide +kernel⟩, lw_t4 (List.mem_of_getElem? (i := 234) rfl), lw_t6 (List.mem_of_getElem? (i := 187) rfl), lw_t6 (List.mem_of_getElem? (i := 188) rfl)⟩
theorem lw_p90 : lw_okq (⟨"LastSpeakersModel", "behind", "(IIII)I"⟩, 63) := ⟨⟨by decide +kernel, by decide +kernel⟩, lw_t4 (List.mem_of_getElem? (i := 234) rfl), lw_t6 (List.mem_of_getElem? (i := 191) rfl), lw_t6 (List.mem_of_getElem? (i := 192) rfl)⟩
theorem lw_p91 : lw_okq (⟨"LastSpeakersModel", "meanAt", "(III)I"⟩, 63) := ⟨⟨by decide +kernel, by decide +kernel⟩, lw_t4 (List.mem_of_getElem? (i := 234) rfl), lw_t6 (List.mem_of_getElem? (i := 195) rfl), lw_t6 (List.mem_of_getElem? (i := 196) rfl)⟩
theorem lw_p92 : lw_okq (⟨"LastSpeakersModel", "meanOfRow", "()I"⟩, 63) := ⟨⟨by decide +kernel, by decide +kernel⟩, lw_t4 (List.mem_of_getElem? (i := 234) rfl), lw_t6 (List.mem_of_getElem? (i := 216) rfl), lw_t6 (List.mem_of_getElem? (i := 217) rfl)⟩
theorem lw_p93 : lw_okq (⟨"LastSpeakersModel", "barred", "()I"⟩, 63) := ⟨⟨by decide +kernel, by decide +kernel⟩, lw_t4 (List.mem_of_getElem? (i := 234) rfl), lw_t6 (List.mem_of_getElem? (i := 222) rfl), lw_t6 (List.mem_of_getElem? (i := 223) rfl)⟩
theorem lw_p94 : lw_okq (⟨"LastSpeakersModel", "sureOf", "(I)I"⟩, 63) := ⟨⟨by decide +kernel, by decide +kernel⟩, lw_t4 (List.mem_of_getElem? (i := 234) rfl), lw_t7 (List.mem_of_getElem? (i := 2) rfl), lw_t7 (List.mem_of_getElem? (i := 3) rfl)⟩
theorem lw_p95 : lw_okq (⟨"LastSpeakersModel", "weightOf", "(II)I"⟩, 63) := ⟨⟨by decide +kernel, by decide +kernel⟩, lw_t4 (List.mem_of_getElem? (i := 234) rfl), lw_t7 (List.mem_of_getElem? (i := 6) rfl), lw_t7 (List.mem_of_getElem? (i := 7) rfl)⟩
def lw_privs_6 : List (MethodName × Nat) := [(⟨"LastSpeakersModel", "passes", "(I)V"⟩, 63), (⟨"LastSpeakersModel", "isSureTime", "(I)Z"⟩, 63), (⟨"LastSpeakersModel", "finds", "(I)V"⟩, 63), (⟨"LastSpeakersModel", "goesOn", "(II)Z"⟩, 63), (⟨"LastSpeakersModel", "somebodyKnows", "(I)Z"⟩, 63), (⟨"LastSpeakersModel", "bestHeap", "(I)I"⟩, 63), (⟨"LastSpeakersModel", "hoursOf", "(I)I"⟩, 63), (⟨"LastSpeakersModel", "isMeanTime", "(I)Z"⟩, 63), (⟨"LastSpeakersModel", "worksMean", "(I)V"⟩, 63), (⟨"LastSpeakersModel", "worthOf", "(IIIII)I"⟩, 63), (⟨"LastSpeakersModel", "behind", "(IIII)I"⟩, 63), (⟨"LastSpeakersModel", "meanAt", "(III)I"⟩, 63), (⟨"LastSpeakersModel", "meanOfRow", "()I"⟩, 63), (⟨"LastSpeakersModel", "barred", "()I"⟩, 63), (⟨"LastSpeakersModel", "sureOf", "(I)I"⟩, 63), (⟨"LastSpeakersModel", "weightOf", "(II)I"⟩, 63)]
theorem lw_r6 : ∀ q ∈ lw_privs_6, lw_okq q := List.forall_mem_cons.mpr ⟨lw_p80, List.forall_mem_cons.mpr ⟨lw_p81, List.forall_mem_cons.mpr ⟨lw_p82, List.forall_mem_cons.mpr ⟨lw_p83, List.forall_mem_cons.mpr ⟨lw_p84, List.forall_mem_cons.mpr ⟨lw_p85, List.forall_mem_cons.mpr ⟨lw_p86, List.forall_mem_cons.mpr ⟨lw_p87, List.forall_mem_cons.mpr ⟨lw_p88, List.forall_mem_cons.mpr ⟨lw_p89, List.forall_mem_cons.mpr ⟨lw_p90, List.forall_mem_cons.mpr ⟨lw_p91, List.forall_mem_cons.mpr ⟨lw_p92, List.forall_mem_cons.mpr ⟨lw_p93, List.forall_mem_cons.mpr ⟨lw_p94, List.forall_mem_cons.mpr ⟨lw_p95, fun _ h => absurd h List.not_mem_nil⟩⟩⟩⟩⟩⟩⟩⟩⟩⟩⟩⟩⟩⟩⟩⟩
theorem lw_p96 : lw_okq (⟨"LastSpeakersModel", "fillOf", "(I)I"⟩, 63) := ⟨⟨by decide +kernel, by decide +kernel⟩, lw_t4 (List.mem_of_getElem? (i := 234) rfl), lw_t7 (List.mem_of_getElem? (i := 10) rfl), lw_t7 (List.mem_of_getElem? (i := 11) rfl)⟩
theorem lw_p97 : lw_okq (⟨"LastSpeakersModel", "heardOf", "(II)I"⟩, 63) := ⟨⟨by decide +kernel, by decide +kernel⟩, lw_t4 (List.mem_of_getElem? (i := 234) rfl), lw_t7 (List.mem_of_getElem? (i := 18) rfl), lw_t7 (List.mem_of_getElem? (i := 19) rfl)⟩
def lw_privs_7 : List (MethodName × Nat) := [(⟨"LastSpeakersModel", "fillOf", "(I)I"⟩, 63), (⟨"LastSpeakersModel", "heardOf", "(II)I"⟩, 63)]
theorem lw_r7 : ∀ q ∈ lw_privs_7, lw_okq q := List.forall_mem_cons.mpr ⟨lw_p96, List.forall_mem_cons.mpr ⟨lw_p97, fun _ h => absurd h List.not_mem_nil⟩⟩
def lw_privs : List (MethodName × Nat) := lw_privs_1 ++ (lw_privs_2 ++ (lw_privs_3 ++ (lw_privs_4 ++ (lw_privs_5 ++ (lw_privs_6 ++ (lw_privs_7))))))
def lw_tbl : List Cond := k2_sels lw_privs ++ tables_1
theorem lw_privs_ok : ∀ q ∈ lw_privs, lw_okq q := by
  show ∀ q ∈ lw_privs_1 ++ (lw_privs_2 ++ (lw_privs_3 ++ (lw_privs_4 ++ (lw_privs_5 ++ (lw_privs_6 ++ (lw_privs_7)))))), lw_okq q
  exact List.forall_mem_append.mpr ⟨lw_r1, List.forall_mem_append.mpr ⟨lw_r2, List.forall_mem_append.mpr ⟨lw_r3, List.forall_mem_append.mpr ⟨lw_r4, List.forall_mem_append.mpr ⟨lw_r5, List.forall_mem_append.mpr ⟨lw_r6, lw_r7⟩⟩⟩⟩⟩⟩
-- ===== ONE list of words for every method: the tables' words that hold all through a run =====
def lw_all : List Cond := lw_tbl.filter goodWord
/-- a word of the tables by its place: claim/WORDS.tsv -/
theorem lw_w {w : Cond} (i : Nat) (h : lw_tbl[i]? = some w) (g : goodWord w = true) : w ∈ lw_all := List.mem_filter.mpr ⟨List.mem_of_getElem? h, g⟩
theorem lw_all_tbl {w : Cond} (h : w ∈ lw_all) : w ∈ lw_tbl := (List.mem_filter.mp h).1
theorem lw_self : GoodIn lw_all lw_all := fun w h => ⟨h, good_of_word (List.mem_filter.mp h).2⟩
/-- a class's field words, by their places -/
theorem lw_in (ws : List Cond) (ps : List Nat) (hp : ws = ps.filterMap (fun i => lw_tbl[i]?)) (hg : ws.all goodWord = true) : ∀ w ∈ ws, w ∈ lw_all := by
  intro w h
  have h1 := List.all_eq_true.mp hg w h
  rw [hp] at h
  obtain ⟨i, -, hi⟩ := List.mem_filterMap.mp h
  exact lw_w i hi h1
/-- the words of a contract for the method y with code b, L locals, answer r -/
abbrev ws_ (y : MethodName) (b : ByteArray) (L : Nat) (r : Option FieldType) : List Cond := Cond.code y b L r :: lw_all
theorem lw_meth {y : MethodName} {b : ByteArray} {L : Nat} {r : Option FieldType} (h : Cond.code y b L r ∈ lw_all) : GoodIn lw_all (ws_ y b L r) := by
  intro w hw
  rcases List.mem_cons.mp hw with e | e
  · rw [e]
    exact lw_self _ h
  · exact lw_self _ e
theorem lw_app {a c : List Cond} (ha : ∀ w ∈ a, w ∈ lw_all) (hc : GoodIn lw_all c) : GoodIn lw_all (a ++ c) := by
  intro w hw
  rcases List.mem_append.mp hw with e | e
  · exact lw_self w (ha w e)
  · exact hc w e
/-- what a call through an object asks: cwV n hts (lw_V ..) -/
theorem lw_V {own : String} {idx : Nat} {C : String} {y : MethodName} {b : ByteArray} {L : Nat} {r : Option FieldType} (h1 : Cond.methodLink own idx y ∈ lw_all) (h2 : Cond.instanceMethod y ∈ lw_all) (h3 : Cond.selects C y y ∈ lw_all) (h4 : Cond.initialized C ∈ lw_all) (h5 : Cond.code y b L r ∈ lw_all) : GoodIn lw_all (wsV own idx C y (ws_ y b L r)) := by
  refine lw_app ?_ (lw_meth h5)
  intro w hw
  simp only [List.mem_cons, List.not_mem_nil, or_false] at hw
  rcases hw with e | e | e | e
  · rw [e]; exact h1
  · rw [e]; exact h2
  · rw [e]; exact h3
  · rw [e]; exact h4
/-- what a static call asks: va_cwS n hts (lw_S ..) -/
theorem lw_S {own : String} {idx : Nat} {y : MethodName} {b : ByteArray} {L : Nat} {r : Option FieldType} (h1 : Cond.methodLink own idx y ∈ lw_all) (h2 : Cond.static y ∈ lw_all) (h3 : Cond.initialized y.cls ∈ lw_all) (h4 : Cond.code y b L r ∈ lw_all) : GoodIn lw_all (va_wsS own idx y (ws_ y b L r)) := by
  refine lw_app ?_ (lw_meth h4)
  intro w hw
  simp only [List.mem_cons, List.not_mem_nil, or_false] at hw
  rcases hw with e | e | e
  · rw [e]; exact h1
  · rw [e]; exact h2
  · rw [e]; exact h3
/-- the words of a contract for a method WITH HANDLERS (hh: its table) -/
abbrev wsW_ (y : MethodName) (b : ByteArray) (L : Nat) (r : Option FieldType) (hh : List (Nat × Nat × Nat × Nat)) : List Cond := Cond.codeWith y b L r hh :: lw_all
theorem lw_methW {y : MethodName} {b : ByteArray} {L : Nat} {r : Option FieldType} {hh : List (Nat × Nat × Nat × Nat)} (h : Cond.codeWith y b L r hh ∈ lw_all) : GoodIn lw_all (wsW_ y b L r hh) := by
  intro w hw
  rcases List.mem_cons.mp hw with e | e
  · rw [e]
    exact lw_self _ h
  · exact lw_self _ e
/-- any list of words by their places (lw_in), good -/
theorem lw_good {ws : List Cond} (h : ∀ w ∈ ws, w ∈ lw_all) : GoodIn lw_all ws := fun w hw => lw_self w (h w hw)
/-- what a call of a method with handlers asks: vx_cwVW n hts (lw_VW ..), vx_cwSW n hts (lw_SW ..) -/
theorem lw_VW {own : String} {idx : Nat} {C : String} {y : MethodName} {b : ByteArray} {L : Nat} {r : Option FieldType} {hh : List (Nat × Nat × Nat × Nat)} (h1 : Cond.methodLink own idx y ∈ lw_all) (h2 : Cond.instanceMethod y ∈ lw_all) (h3 : Cond.selects C y y ∈ lw_all) (h4 : Cond.initialized C ∈ lw_all) (h5 : Cond.codeWith y b L r hh ∈ lw_all) : GoodIn lw_all (wsV own idx C y (wsW_ y b L r hh)) := by
  refine lw_app ?_ (lw_methW h5)
  intro w hw
  simp only [List.mem_cons, List.not_mem_nil, or_false] at hw
  rcases hw with e | e | e | e
  · rw [e]; exact h1
  · rw [e]; exact h2
  · rw [e]; exact h3
  · rw [e]; exact h4
theorem lw_SW {own : String} {idx : Nat} {y : MethodName} {b : ByteArray} {L : Nat} {r : Option FieldType} {hh : List (Nat × Nat × Nat × Nat)} (h1 : Cond.methodLink own idx y ∈ lw_all) (h2 : Cond.static y ∈ lw_all) (h3 : Cond.initialized y.cls ∈ lw_all) (h4 : Cond.codeWith y b L r hh ∈ lw_all) : GoodIn lw_all (va_wsS own idx y (wsW_ y b L r hh)) := by
  refine lw_app ?_ (lw_methW h4)
  intro w hw
  simp only [List.mem_cons, List.not_mem_nil, or_false] at hw
  rcases hw with e | e | e
  · rw [e]; exact h1
  · rw [e]; exact h2
  · rw [e]; exact h3
/-- a word by its place in its run of the tables -/
theorem lw_at {r : List Cond} (hr : ∀ w ∈ r, w ∈ lw_tbl) {w : Cond} (i : Nat) (h : r[i]? = some w) : w ∈ lw_tbl := hr w (List.mem_of_getElem? h)
theorem lw_g {w : Cond} (h : w ∈ lw_tbl) (g : goodWord w = true) : w ∈ lw_all := List.mem_filter.mpr ⟨h, g⟩
theorem lw_ms : ∀ w ∈ k2_sels lw_privs, w ∈ lw_tbl := fun w h => show w ∈ k2_sels lw_privs ++ tables_1 from List.mem_append_left _ h
theorem lw_m1 : ∀ w ∈ tables_1_1, w ∈ lw_tbl := fun w h => show w ∈ k2_sels lw_privs ++ tables_1 from List.mem_append_right (k2_sels lw_privs) (show w ∈ tables_1 from List.mem_append_left _ h)
theorem lw_m2 : ∀ w ∈ tables_1_2, w ∈ lw_tbl := fun w h => show w ∈ k2_sels lw_privs ++ tables_1 from List.mem_append_right (k2_sels lw_privs) (show w ∈ tables_1 from List.mem_append_right _ (List.mem_append_left _ h))
theorem lw_m3 : ∀ w ∈ tables_1_3, w ∈ lw_tbl := fun w h => show w ∈ k2_sels lw_privs ++ tables_1 from List.mem_append_right (k2_sels lw_privs) (show w ∈ tables_1 from List.mem_append_right _ (List.mem_append_right _ (List.mem_append_left _ h)))
theorem lw_m4 : ∀ w ∈ tables_1_4, w ∈ lw_tbl := fun w h => show w ∈ k2_sels lw_privs ++ tables_1 from List.mem_append_right (k2_sels lw_privs) (show w ∈ tables_1 from List.mem_append_right _ (List.mem_append_right _ (List.mem_append_right _ (List.mem_append_left _ h))))
theorem lw_m5 : ∀ w ∈ tables_1_5, w ∈ lw_tbl := fun w h => show w ∈ k2_sels lw_privs ++ tables_1 from List.mem_append_right (k2_sels lw_privs) (show w ∈ tables_1 from List.mem_append_right _ (List.mem_append_right _ (List.mem_append_right _ (List.mem_append_right _ (List.mem_append_left _ h)))))
theorem lw_m6 : ∀ w ∈ tables_1_6, w ∈ lw_tbl := fun w h => show w ∈ k2_sels lw_privs ++ tables_1 from List.mem_append_right (k2_sels lw_privs) (show w ∈ tables_1 from List.mem_append_right _ (List.mem_append_right _ (List.mem_append_right _ (List.mem_append_right _ (List.mem_append_right _ (List.mem_append_left _ h))))))
theorem lw_m7 : ∀ w ∈ tables_1_7, w ∈ lw_tbl := fun w h => show w ∈ k2_sels lw_privs ++ tables_1 from List.mem_append_right (k2_sels lw_privs) (show w ∈ tables_1 from List.mem_append_right _ (List.mem_append_right _ (List.mem_append_right _ (List.mem_append_right _ (List.mem_append_right _ (List.mem_append_right _ h))))))
theorem qs0 : (Cond.selects "LastSpeakers" ⟨"LastSpeakers", "feeds", "(I)V"⟩ ⟨"LastSpeakers", "feeds", "(I)V"⟩) ∈ lw_all := lw_g (lw_at lw_ms 0 rfl) rfl
theorem qs1 : (Cond.selects "LastSpeakers$Reader" ⟨"LastSpeakers$Reader", "next", "()V"⟩ ⟨"LastSpeakers$Reader", "next", "()V"⟩) ∈ lw_all := lw_g (lw_at lw_ms 1 rfl) rfl
theorem qs2 : (Cond.selects "LastSpeakers$Reader" ⟨"LastSpeakers$Reader", "isBetween", "(III)Z"⟩ ⟨"LastSpeakers$Reader", "isBetween", "(III)Z"⟩) ∈ lw_all := lw_g (lw_at lw_ms 2 rfl) rfl
theorem qs3 : (Cond.selects "LastSpeakers$Reader" ⟨"LastSpeakers$Reader", "line", "()Z"⟩ ⟨"LastSpeakers$Reader", "line", "()Z"⟩) ∈ lw_all := lw_g (lw_at lw_ms 3 rfl) rfl
theorem qs4 : (Cond.selects "LastSpeakers$Reader" ⟨"LastSpeakers$Reader", "wordHere", "()I"⟩ ⟨"LastSpeakers$Reader", "wordHere", "()I"⟩) ∈ lw_all := lw_g (lw_at lw_ms 4 rfl) rfl
theorem qs5 : (Cond.selects "LastSpeakers$Reader" ⟨"LastSpeakers$Reader", "isWord", "(Ljava/lang/String;)Z"⟩ ⟨"LastSpeakers$Reader", "isWord", "(Ljava/lang/String;)Z"⟩) ∈ lw_all := lw_g (lw_at lw_ms 5 rfl) rfl
theorem qs6 : (Cond.selects "LastSpeakers$Reader" ⟨"LastSpeakers$Reader", "hasRoom", "(I)Z"⟩ ⟨"LastSpeakers$Reader", "hasRoom", "(I)Z"⟩) ∈ lw_all := lw_g (lw_at lw_ms 6 rfl) rfl
theorem qs7 : (Cond.selects "LastSpeakers$Reader" ⟨"LastSpeakers$Reader", "passes", "(Z)Z"⟩ ⟨"LastSpeakers$Reader", "passes", "(Z)Z"⟩) ∈ lw_all := lw_g (lw_at lw_ms 7 rfl) rfl
theorem qs8 : (Cond.selects "LastSpeakers$Reader" ⟨"LastSpeakers$Reader", "told", "(I)Z"⟩ ⟨"LastSpeakers$Reader", "told", "(I)Z"⟩) ∈ lw_all := lw_g (lw_at lw_ms 8 rfl) rfl
theorem qs9 : (Cond.selects "LastSpeakers$Reader" ⟨"LastSpeakers$Reader", "thing", "()Z"⟩ ⟨"LastSpeakers$Reader", "thing", "()Z"⟩) ∈ lw_all := lw_g (lw_at lw_ms 9 rfl) rfl
theorem qs10 : (Cond.selects "LastSpeakers$Reader" ⟨"LastSpeakers$Reader", "name", "()J"⟩ ⟨"LastSpeakers$Reader", "name", "()J"⟩) ∈ lw_all := lw_g (lw_at lw_ms 10 rfl) rfl
theorem qs11 : (Cond.selects "LastSpeakers$Reader" ⟨"LastSpeakers$Reader", "number", "(II)Z"⟩ ⟨"LastSpeakers$Reader", "number", "(II)Z"⟩) ∈ lw_all := lw_g (lw_at lw_ms 11 rfl) rfl
theorem qs12 : (Cond.selects "java/util/ArrayList" ⟨"java/util/ArrayList", "add", "(Ljava/lang/Object;[Ljava/lang/Object;I)V"⟩ ⟨"java/util/ArrayList", "add", "(Ljava/lang/Object;[Ljava/lang/Object;I)V"⟩) ∈ lw_all := lw_g (lw_at lw_ms 12 rfl) rfl
theorem qs13 : (Cond.selects "java/util/ArrayList" ⟨"java/util/ArrayList", "grow", "()[Ljava/lang/Object;"⟩ ⟨"java/util/ArrayList", "grow", "()[Ljava/lang/Object;"⟩) ∈ lw_all := lw_g (lw_at lw_ms 13 rfl) rfl
theorem qs14 : (Cond.selects "java/util/ArrayList" ⟨"java/util/ArrayList", "grow", "(I)[Ljava/lang/Object;"⟩ ⟨"java/util/ArrayList", "grow", "(I)[Ljava/lang/Object;"⟩) ∈ lw_all := lw_g (lw_at lw_ms 14 rfl) rfl
theorem qs15 : (Cond.selects "LastSpeakers$Reader" ⟨"LastSpeakers$Reader", "person", "()Z"⟩ ⟨"LastSpeakers$Reader", "person", "()Z"⟩) ∈ lw_all := lw_g (lw_at lw_ms 15 rfl) rfl
theorem qs16 : (Cond.selects "LastSpeakers$Reader" ⟨"LastSpeakers$Reader", "knows", "()Z"⟩ ⟨"LastSpeakers$Reader", "knows", "()Z"⟩) ∈ lw_all := lw_g (lw_at lw_ms 16 rfl) rfl
theorem qs17 : (Cond.selects "LastSpeakers$Reader" ⟨"LastSpeakers$Reader", "found", "()I"⟩ ⟨"LastSpeakers$Reader", "found", "()I"⟩) ∈ lw_all := lw_g (lw_at lw_ms 17 rfl) rfl
theorem qs18 : (Cond.selects "LastSpeakers$Reader" ⟨"LastSpeakers$Reader", "thingHere", "()I"⟩ ⟨"LastSpeakers$Reader", "thingHere", "()I"⟩) ∈ lw_all := lw_g (lw_at lw_ms 18 rfl) rfl
theorem qs19 : (Cond.selects "LastSpeakers$Reader" ⟨"LastSpeakers$Reader", "leans", "()Z"⟩ ⟨"LastSpeakers$Reader", "leans", "()Z"⟩) ∈ lw_all := lw_g (lw_at lw_ms 19 rfl) rfl
theorem qs20 : (Cond.selects "LastSpeakers$Reader" ⟨"LastSpeakers$Reader", "reminds", "()Z"⟩ ⟨"LastSpeakers$Reader", "reminds", "()Z"⟩) ∈ lw_all := lw_g (lw_at lw_ms 20 rfl) rfl
theorem qs21 : (Cond.selects "LastSpeakers$Reader" ⟨"LastSpeakers$Reader", "follows", "()Z"⟩ ⟨"LastSpeakers$Reader", "follows", "()Z"⟩) ∈ lw_all := lw_g (lw_at lw_ms 21 rfl) rfl
theorem qs22 : (Cond.selects "LastSpeakers$Reader" ⟨"LastSpeakers$Reader", "isSign", "(I)Z"⟩ ⟨"LastSpeakers$Reader", "isSign", "(I)Z"⟩) ∈ lw_all := lw_g (lw_at lw_ms 22 rfl) rfl
theorem qs23 : (Cond.selects "LastSpeakers" ⟨"LastSpeakers", "isThing", "(I)Z"⟩ ⟨"LastSpeakers", "isThing", "(I)Z"⟩) ∈ lw_all := lw_g (lw_at lw_ms 23 rfl) rfl
theorem qs24 : (Cond.selects "LastSpeakers" ⟨"LastSpeakers", "many", "()I"⟩ ⟨"LastSpeakers", "many", "()I"⟩) ∈ lw_all := lw_g (lw_at lw_ms 24 rfl) rfl
theorem qs25 : (Cond.selects "LastSpeakers" ⟨"LastSpeakers", "at", "(I)LLastSpeakers$Thing;"⟩ ⟨"LastSpeakers", "at", "(I)LLastSpeakers$Thing;"⟩) ∈ lw_all := lw_g (lw_at lw_ms 25 rfl) rfl
theorem qs26 : (Cond.selects "LastSpeakers" ⟨"LastSpeakers", "isHad", "(I)Z"⟩ ⟨"LastSpeakers", "isHad", "(I)Z"⟩) ∈ lw_all := lw_g (lw_at lw_ms 26 rfl) rfl
theorem qs27 : (Cond.selects "LastSpeakers" ⟨"LastSpeakers", "isPerson", "(I)Z"⟩ ⟨"LastSpeakers", "isPerson", "(I)Z"⟩) ∈ lw_all := lw_g (lw_at lw_ms 27 rfl) rfl
theorem qs28 : (Cond.selects "LastSpeakers" ⟨"LastSpeakers", "who", "(I)LLastSpeakers$Person;"⟩ ⟨"LastSpeakers", "who", "(I)LLastSpeakers$Person;"⟩) ∈ lw_all := lw_g (lw_at lw_ms 28 rfl) rfl
theorem qs29 : (Cond.selects "LastSpeakers" ⟨"LastSpeakers", "isHeap", "(I)Z"⟩ ⟨"LastSpeakers", "isHeap", "(I)Z"⟩) ∈ lw_all := lw_g (lw_at lw_ms 29 rfl) rfl
theorem qs30 : (Cond.selects "LastSpeakers" ⟨"LastSpeakers", "brings", "(I)I"⟩ ⟨"LastSpeakers", "brings", "(I)I"⟩) ∈ lw_all := lw_g (lw_at lw_ms 30 rfl) rfl
theorem qs31 : (Cond.selects "LastSpeakers" ⟨"LastSpeakers", "passes", "(I)V"⟩ ⟨"LastSpeakers", "passes", "(I)V"⟩) ∈ lw_all := lw_g (lw_at lw_ms 31 rfl) rfl
theorem qs32 : (Cond.selects "LastSpeakers" ⟨"LastSpeakers", "lot", "(I)I"⟩ ⟨"LastSpeakers", "lot", "(I)I"⟩) ∈ lw_all := lw_g (lw_at lw_ms 32 rfl) rfl
theorem qs33 : (Cond.selects "LastSpeakers" ⟨"LastSpeakers", "mayNow", "(II)Z"⟩ ⟨"LastSpeakers", "mayNow", "(II)Z"⟩) ∈ lw_all := lw_g (lw_at lw_ms 33 rfl) rfl
theorem qs34 : (Cond.selects "LastSpeakers" ⟨"LastSpeakers", "canLean", "(II)Z"⟩ ⟨"LastSpeakers", "canLean", "(II)Z"⟩) ∈ lw_all := lw_g (lw_at lw_ms 34 rfl) rfl
theorem qs35 : (Cond.selects "LastSpeakers" ⟨"LastSpeakers", "spoon", "(LLastSpeakers$Person;)I"⟩ ⟨"LastSpeakers", "spoon", "(LLastSpeakers$Person;)I"⟩) ∈ lw_all := lw_g (lw_at lw_ms 35 rfl) rfl
theorem qs36 : (Cond.selects "LastSpeakers" ⟨"LastSpeakers", "notes", "(III)V"⟩ ⟨"LastSpeakers", "notes", "(III)V"⟩) ∈ lw_all := lw_g (lw_at lw_ms 36 rfl) rfl
theorem qs37 : (Cond.selects "LastSpeakers" ⟨"LastSpeakers", "areHours", "(I)Z"⟩ ⟨"LastSpeakers", "areHours", "(I)Z"⟩) ∈ lw_all := lw_g (lw_at lw_ms 37 rfl) rfl
theorem qs38 : (Cond.selects "LastSpeakers" ⟨"LastSpeakers", "findsBest", "(II)V"⟩ ⟨"LastSpeakers", "findsBest", "(II)V"⟩) ∈ lw_all := lw_g (lw_at lw_ms 38 rfl) rfl
theorem qs39 : (Cond.selects "LastSpeakers" ⟨"LastSpeakers", "known", "()I"⟩ ⟨"LastSpeakers", "known", "()I"⟩) ∈ lw_all := lw_g (lw_at lw_ms 39 rfl) rfl
theorem qs40 : (Cond.selects "LastSpeakers" ⟨"LastSpeakers", "isLast", "(IIII)Z"⟩ ⟨"LastSpeakers", "isLast", "(IIII)Z"⟩) ∈ lw_all := lw_g (lw_at lw_ms 40 rfl) rfl
theorem qs41 : (Cond.selects "LastSpeakers" ⟨"LastSpeakers", "lostNow", "()I"⟩ ⟨"LastSpeakers", "lostNow", "()I"⟩) ∈ lw_all := lw_g (lw_at lw_ms 41 rfl) rfl
theorem qs42 : (Cond.selects "LastSpeakers" ⟨"LastSpeakers", "areLeft", "(I)Z"⟩ ⟨"LastSpeakers", "areLeft", "(I)Z"⟩) ∈ lw_all := lw_g (lw_at lw_ms 42 rfl) rfl
theorem qs43 : (Cond.selects "LastSpeakers" ⟨"LastSpeakers", "values", "(I)V"⟩ ⟨"LastSpeakers", "values", "(I)V"⟩) ∈ lw_all := lw_g (lw_at lw_ms 43 rfl) rfl
theorem qs44 : (Cond.selects "LastSpeakers" ⟨"LastSpeakers", "valueOf", "(III)I"⟩ ⟨"LastSpeakers", "valueOf", "(III)I"⟩) ∈ lw_all := lw_g (lw_at lw_ms 44 rfl) rfl
theorem qs45 : (Cond.selects "LastSpeakers" ⟨"LastSpeakers", "asked", "(IIIII)I"⟩ ⟨"LastSpeakers", "asked", "(IIIII)I"⟩) ∈ lw_all := lw_g (lw_at lw_ms 45 rfl) rfl
theorem qs46 : (Cond.selects "LastSpeakers" ⟨"LastSpeakers", "mean", "(IIIZ)I"⟩ ⟨"LastSpeakers", "mean", "(IIIZ)I"⟩) ∈ lw_all := lw_g (lw_at lw_ms 46 rfl) rfl
theorem qs47 : (Cond.selects "LastSpeakers" ⟨"LastSpeakers", "thereNow", "()I"⟩ ⟨"LastSpeakers", "thereNow", "()I"⟩) ∈ lw_all := lw_g (lw_at lw_ms 47 rfl) rfl
theorem qs48 : (Cond.selects "LastSpeakers" ⟨"LastSpeakers", "meanOfRow", "()I"⟩ ⟨"LastSpeakers", "meanOfRow", "()I"⟩) ∈ lw_all := lw_g (lw_at lw_ms 48 rfl) rfl
theorem qs49 : (Cond.selects "LastSpeakers" ⟨"LastSpeakers", "canTell", "(I)Z"⟩ ⟨"LastSpeakers", "canTell", "(I)Z"⟩) ∈ lw_all := lw_g (lw_at lw_ms 49 rfl) rfl
theorem qs50 : (Cond.selects "LastSpeakers" ⟨"LastSpeakers", "barred", "()I"⟩ ⟨"LastSpeakers", "barred", "()I"⟩) ∈ lw_all := lw_g (lw_at lw_ms 50 rfl) rfl
theorem qs51 : (Cond.selects "LastSpeakers" ⟨"LastSpeakers", "sure", "(I)I"⟩ ⟨"LastSpeakers", "sure", "(I)I"⟩) ∈ lw_all := lw_g (lw_at lw_ms 51 rfl) rfl
theorem qs52 : (Cond.selects "LastSpeakers" ⟨"LastSpeakers", "weight", "(II)I"⟩ ⟨"LastSpeakers", "weight", "(II)I"⟩) ∈ lw_all := lw_g (lw_at lw_ms 52 rfl) rfl
theorem qs53 : (Cond.selects "LastSpeakers" ⟨"LastSpeakers", "weightBy", "(III)I"⟩ ⟨"LastSpeakers", "weightBy", "(III)I"⟩) ∈ lw_all := lw_g (lw_at lw_ms 53 rfl) rfl
theorem qs54 : (Cond.selects "LastSpeakers" ⟨"LastSpeakers", "fill", "(I)I"⟩ ⟨"LastSpeakers", "fill", "(I)I"⟩) ∈ lw_all := lw_g (lw_at lw_ms 54 rfl) rfl
theorem qs55 : (Cond.selects "LastSpeakers" ⟨"LastSpeakers", "heardOf", "(II)I"⟩ ⟨"LastSpeakers", "heardOf", "(II)I"⟩) ∈ lw_all := lw_g (lw_at lw_ms 55 rfl) rfl
theorem qs56 : (Cond.selects "LastSpeakersModel" ⟨"LastSpeakersModel", "leads", "()V"⟩ ⟨"LastSpeakersModel", "leads", "()V"⟩) ∈ lw_all := lw_g (lw_at lw_ms 56 rfl) rfl
theorem qs57 : (Cond.selects "LastSpeakersModel" ⟨"LastSpeakersModel", "lineHere", "()Z"⟩ ⟨"LastSpeakersModel", "lineHere", "()Z"⟩) ∈ lw_all := lw_g (lw_at lw_ms 57 rfl) rfl
theorem qs58 : (Cond.selects "LastSpeakersModel" ⟨"LastSpeakersModel", "isWord", "(Ljava/lang/String;)Z"⟩ ⟨"LastSpeakersModel", "isWord", "(Ljava/lang/String;)Z"⟩) ∈ lw_all := lw_g (lw_at lw_ms 58 rfl) rfl
theorem qs59 : (Cond.selects "LastSpeakersModel" ⟨"LastSpeakersModel", "thingLine", "()Z"⟩ ⟨"LastSpeakersModel", "thingLine", "()Z"⟩) ∈ lw_all := lw_g (lw_at lw_ms 59 rfl) rfl
theorem qs60 : (Cond.selects "LastSpeakersModel" ⟨"LastSpeakersModel", "isName", "()Z"⟩ ⟨"LastSpeakersModel", "isName", "()Z"⟩) ∈ lw_all := lw_g (lw_at lw_ms 60 rfl) rfl
theorem qs61 : (Cond.selects "LastSpeakersModel" ⟨"LastSpeakersModel", "thingHere", "()I"⟩ ⟨"LastSpeakersModel", "thingHere", "()I"⟩) ∈ lw_all := lw_g (lw_at lw_ms 61 rfl) rfl
theorem qs62 : (Cond.selects "LastSpeakersModel" ⟨"LastSpeakersModel", "personHere", "()I"⟩ ⟨"LastSpeakersModel", "personHere", "()I"⟩) ∈ lw_all := lw_g (lw_at lw_ms 62 rfl) rfl
theorem qs63 : (Cond.selects "LastSpeakersModel" ⟨"LastSpeakersModel", "number", "(II)Z"⟩ ⟨"LastSpeakersModel", "number", "(II)Z"⟩) ∈ lw_all := lw_g (lw_at lw_ms 63 rfl) rfl
theorem qs64 : (Cond.selects "LastSpeakersModel" ⟨"LastSpeakersModel", "closes", "()Z"⟩ ⟨"LastSpeakersModel", "closes", "()Z"⟩) ∈ lw_all := lw_g (lw_at lw_ms 64 rfl) rfl
theorem qs65 : (Cond.selects "LastSpeakersModel" ⟨"LastSpeakersModel", "personLine", "()Z"⟩ ⟨"LastSpeakersModel", "personLine", "()Z"⟩) ∈ lw_all := lw_g (lw_at lw_ms 65 rfl) rfl
theorem qs66 : (Cond.selects "LastSpeakersModel" ⟨"LastSpeakersModel", "knowsLine", "()Z"⟩ ⟨"LastSpeakersModel", "knowsLine", "()Z"⟩) ∈ lw_all := lw_g (lw_at lw_ms 66 rfl) rfl
theorem qs67 : (Cond.selects "LastSpeakersModel" ⟨"LastSpeakersModel", "followLine", "()Z"⟩ ⟨"LastSpeakersModel", "followLine", "()Z"⟩) ∈ lw_all := lw_g (lw_at lw_ms 67 rfl) rfl
theorem qs68 : (Cond.selects "LastSpeakersModel" ⟨"LastSpeakersModel", "monthLine", "()Z"⟩ ⟨"LastSpeakersModel", "monthLine", "()Z"⟩) ∈ lw_all := lw_g (lw_at lw_ms 68 rfl) rfl
theorem qs69 : (Cond.selects "LastSpeakersModel" ⟨"LastSpeakersModel", "coupleLine", "([I)Z"⟩ ⟨"LastSpeakersModel", "coupleLine", "([I)Z"⟩) ∈ lw_all := lw_g (lw_at lw_ms 69 rfl) rfl
theorem qs70 : (Cond.selects "LastSpeakersModel" ⟨"LastSpeakersModel", "isThing", "(I)Z"⟩ ⟨"LastSpeakersModel", "isThing", "(I)Z"⟩) ∈ lw_all := lw_g (lw_at lw_ms 70 rfl) rfl
theorem qs71 : (Cond.selects "LastSpeakersModel" ⟨"LastSpeakersModel", "worth", "(I)I"⟩ ⟨"LastSpeakersModel", "worth", "(I)I"⟩) ∈ lw_all := lw_g (lw_at lw_ms 71 rfl) rfl
theorem qs72 : (Cond.selects "LastSpeakersModel" ⟨"LastSpeakersModel", "hours", "(I)I"⟩ ⟨"LastSpeakersModel", "hours", "(I)I"⟩) ∈ lw_all := lw_g (lw_at lw_ms 72 rfl) rfl
theorem qs73 : (Cond.selects "LastSpeakersModel" ⟨"LastSpeakersModel", "isPerson", "(I)Z"⟩ ⟨"LastSpeakersModel", "isPerson", "(I)Z"⟩) ∈ lw_all := lw_g (lw_at lw_ms 73 rfl) rfl
theorem qs74 : (Cond.selects "LastSpeakersModel" ⟨"LastSpeakersModel", "clearly", "(II)I"⟩ ⟨"LastSpeakersModel", "clearly", "(II)I"⟩) ∈ lw_all := lw_g (lw_at lw_ms 74 rfl) rfl
theorem qs75 : (Cond.selects "LastSpeakersModel" ⟨"LastSpeakersModel", "isHeap", "(I)Z"⟩ ⟨"LastSpeakersModel", "isHeap", "(I)Z"⟩) ∈ lw_all := lw_g (lw_at lw_ms 75 rfl) rfl
theorem qs76 : (Cond.selects "LastSpeakersModel" ⟨"LastSpeakersModel", "withFollows", "(II)I"⟩ ⟨"LastSpeakersModel", "withFollows", "(II)I"⟩) ∈ lw_all := lw_g (lw_at lw_ms 76 rfl) rfl
theorem qs77 : (Cond.selects "LastSpeakersModel" ⟨"LastSpeakersModel", "canAsk", "(II)Z"⟩ ⟨"LastSpeakersModel", "canAsk", "(II)Z"⟩) ∈ lw_all := lw_g (lw_at lw_ms 77 rfl) rfl
theorem qs78 : (Cond.selects "LastSpeakersModel" ⟨"LastSpeakersModel", "draws", "(I)I"⟩ ⟨"LastSpeakersModel", "draws", "(I)I"⟩) ∈ lw_all := lw_g (lw_at lw_ms 78 rfl) rfl
theorem qs79 : (Cond.selects "LastSpeakersModel" ⟨"LastSpeakersModel", "worths", "(I)I"⟩ ⟨"LastSpeakersModel", "worths", "(I)I"⟩) ∈ lw_all := lw_g (lw_at lw_ms 79 rfl) rfl
theorem qs80 : (Cond.selects "LastSpeakersModel" ⟨"LastSpeakersModel", "passes", "(I)V"⟩ ⟨"LastSpeakersModel", "passes", "(I)V"⟩) ∈ lw_all := lw_g (lw_at lw_ms 80 rfl) rfl
theorem qs81 : (Cond.selects "LastSpeakersModel" ⟨"LastSpeakersModel", "isSureTime", "(I)Z"⟩ ⟨"LastSpeakersModel", "isSureTime", "(I)Z"⟩) ∈ lw_all := lw_g (lw_at lw_ms 81 rfl) rfl
theorem qs82 : (Cond.selects "LastSpeakersModel" ⟨"LastSpeakersModel", "finds", "(I)V"⟩ ⟨"LastSpeakersModel", "finds", "(I)V"⟩) ∈ lw_all := lw_g (lw_at lw_ms 82 rfl) rfl
theorem qs83 : (Cond.selects "LastSpeakersModel" ⟨"LastSpeakersModel", "goesOn", "(II)Z"⟩ ⟨"LastSpeakersModel", "goesOn", "(II)Z"⟩) ∈ lw_all := lw_g (lw_at lw_ms 83 rfl) rfl
theorem qs84 : (Cond.selects "LastSpeakersModel" ⟨"LastSpeakersModel", "somebodyKnows", "(I)Z"⟩ ⟨"LastSpeakersModel", "somebodyKnows", "(I)Z"⟩) ∈ lw_all := lw_g (lw_at lw_ms 84 rfl) rfl
theorem qs85 : (Cond.selects "LastSpeakersModel" ⟨"LastSpeakersModel", "bestHeap", "(I)I"⟩ ⟨"LastSpeakersModel", "bestHeap", "(I)I"⟩) ∈ lw_all := lw_g (lw_at lw_ms 85 rfl) rfl
theorem qs86 : (Cond.selects "LastSpeakersModel" ⟨"LastSpeakersModel", "hoursOf", "(I)I"⟩ ⟨"LastSpeakersModel", "hoursOf", "(I)I"⟩) ∈ lw_all := lw_g (lw_at lw_ms 86 rfl) rfl
theorem qs87 : (Cond.selects "LastSpeakersModel" ⟨"LastSpeakersModel", "isMeanTime", "(I)Z"⟩ ⟨"LastSpeakersModel", "isMeanTime", "(I)Z"⟩) ∈ lw_all := lw_g (lw_at lw_ms 87 rfl) rfl
theorem qs88 : (Cond.selects "LastSpeakersModel" ⟨"LastSpeakersModel", "worksMean", "(I)V"⟩ ⟨"LastSpeakersModel", "worksMean", "(I)V"⟩) ∈ lw_all := lw_g (lw_at lw_ms 88 rfl) rfl
theorem qs89 : (Cond.selects "LastSpeakersModel" ⟨"LastSpeakersModel", "worthOf", "(IIIII)I"⟩ ⟨"LastSpeakersModel", "worthOf", "(IIIII)I"⟩) ∈ lw_all := lw_g (lw_at lw_ms 89 rfl) rfl
theorem qs90 : (Cond.selects "LastSpeakersModel" ⟨"LastSpeakersModel", "behind", "(IIII)I"⟩ ⟨"LastSpeakersModel", "behind", "(IIII)I"⟩) ∈ lw_all := lw_g (lw_at lw_ms 90 rfl) rfl
theorem qs91 : (Cond.selects "LastSpeakersModel" ⟨"LastSpeakersModel", "meanAt", "(III)I"⟩ ⟨"LastSpeakersModel", "meanAt", "(III)I"⟩) ∈ lw_all := lw_g (lw_at lw_ms 91 rfl) rfl
theorem qs92 : (Cond.selects "LastSpeakersModel" ⟨"LastSpeakersModel", "meanOfRow", "()I"⟩ ⟨"LastSpeakersModel", "meanOfRow", "()I"⟩) ∈ lw_all := lw_g (lw_at lw_ms 92 rfl) rfl
theorem qs93 : (Cond.selects "LastSpeakersModel" ⟨"LastSpeakersModel", "barred", "()I"⟩ ⟨"LastSpeakersModel", "barred", "()I"⟩) ∈ lw_all := lw_g (lw_at lw_ms 93 rfl) rfl
theorem qs94 : (Cond.selects "LastSpeakersModel" ⟨"LastSpeakersModel", "sureOf", "(I)I"⟩ ⟨"LastSpeakersModel", "sureOf", "(I)I"⟩) ∈ lw_all := lw_g (lw_at lw_ms 94 rfl) rfl
theorem qs95 : (Cond.selects "LastSpeakersModel" ⟨"LastSpeakersModel", "weightOf", "(II)I"⟩ ⟨"LastSpeakersModel", "weightOf", "(II)I"⟩) ∈ lw_all := lw_g (lw_at lw_ms 95 rfl) rfl
theorem qs96 : (Cond.selects "LastSpeakersModel" ⟨"LastSpeakersModel", "fillOf", "(I)I"⟩ ⟨"LastSpeakersModel", "fillOf", "(I)I"⟩) ∈ lw_all := lw_g (lw_at lw_ms 96 rfl) rfl
theorem qs97 : (Cond.selects "LastSpeakersModel" ⟨"LastSpeakersModel", "heardOf", "(II)I"⟩ ⟨"LastSpeakersModel", "heardOf", "(II)I"⟩) ∈ lw_all := lw_g (lw_at lw_ms 97 rfl) rfl
