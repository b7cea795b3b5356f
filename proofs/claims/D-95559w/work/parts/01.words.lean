-- ===== PART A: goes FIRST, ahead of the names: the tables' words, and 'selects' of the private methods out of them =====
/-- a private method of a class that the tables say can be made, by its rows of tables_1 -/
def lw_okq (q : MethodName × Nat) : Prop := (q.1.cls ≠ "java/lang/invoke/MethodHandle" ∧ q.1.cls ≠ "java/lang/invoke/VarHandle") ∧ Cond.instantiable q.1.cls q.2 ∈ tables_1 ∧ Cond.privateMethod q.1 ∈ tables_1 ∧ Cond.instanceMethod q.1 ∈ tables_1
set_option maxRecDepth 100000
theorem lw_t1 {w : Cond} (h : w ∈ tables_1_1) : w ∈ tables_1 := List.mem_append_left _ h
theorem lw_t2 {w : Cond} (h : w ∈ tables_1_2) : w ∈ tables_1 := List.mem_append_right _ (List.mem_append_left _ h)
theorem lw_t3 {w : Cond} (h : w ∈ tables_1_3) : w ∈ tables_1 := List.mem_append_right _ (List.mem_append_right _ (List.mem_append_left _ h))
theorem lw_t4 {w : Cond} (h : w ∈ tables_1_4) : w ∈ tables_1 := List.mem_append_right _ (List.mem_append_right _ (List.mem_append_right _ (List.mem_append_left _ h)))
theorem lw_t5 {w : Cond} (h : w ∈ tables_1_5) : w ∈ tables_1 := List.mem_append_right _ (List.mem_append_right _ (List.mem_append_right _ (List.mem_append_right _ (List.mem_append_left _ h))))
theorem lw_t6 {w : Cond} (h : w ∈ tables_1_6) : w ∈ tables_1 := List.mem_append_right _ (List.mem_append_right _ (List.mem_append_right _ (List.mem_append_right _ (List.mem_append_right _ (List.mem_append_left _ h)))))
theorem lw_t7 {w : Cond} (h : w ∈ tables_1_7) : w ∈ tables_1 := List.mem_append_right _ (List.mem_append_right _ (List.mem_append_right _ (List.mem_append_right _ (List.mem_append_right _ (List.mem_append_right _ h)))))
theorem lw_p0 : lw_okq (⟨"SoldWithIt", "faultOf", "(I)I"⟩, 21) := ⟨⟨by decide +kernel, by decide +kernel⟩, lw_t1 (List.mem_of_getElem? (i := 31) rfl), lw_t2 (List.mem_of_getElem? (i := 40) rfl), lw_t2 (List.mem_of_getElem? (i := 41) rfl)⟩
theorem lw_p1 : lw_okq (⟨"java/lang/Throwable", "fillInStackTrace", "(I)Ljava/lang/Throwable;"⟩, 6) := ⟨⟨by decide +kernel, by decide +kernel⟩, lw_t2 (List.mem_of_getElem? (i := 124) rfl), lw_t2 (List.mem_of_getElem? (i := 122) rfl), lw_t2 (List.mem_of_getElem? (i := 123) rfl)⟩
theorem lw_p2 : lw_okq (⟨"java/util/ArrayList", "add", "(Ljava/lang/Object;[Ljava/lang/Object;I)V"⟩, 3) := ⟨⟨by decide +kernel, by decide +kernel⟩, lw_t1 (List.mem_of_getElem? (i := 48) rfl), lw_t2 (List.mem_of_getElem? (i := 235) rfl), lw_t2 (List.mem_of_getElem? (i := 236) rfl)⟩
theorem lw_p3 : lw_okq (⟨"java/util/ArrayList", "grow", "()[Ljava/lang/Object;"⟩, 3) := ⟨⟨by decide +kernel, by decide +kernel⟩, lw_t1 (List.mem_of_getElem? (i := 48) rfl), lw_t2 (List.mem_of_getElem? (i := 239) rfl), lw_t3 (List.mem_of_getElem? (i := 0) rfl)⟩
theorem lw_p4 : lw_okq (⟨"java/util/ArrayList", "grow", "(I)[Ljava/lang/Object;"⟩, 3) := ⟨⟨by decide +kernel, by decide +kernel⟩, lw_t1 (List.mem_of_getElem? (i := 48) rfl), lw_t3 (List.mem_of_getElem? (i := 3) rfl), lw_t3 (List.mem_of_getElem? (i := 4) rfl)⟩
theorem lw_p5 : lw_okq (⟨"SoldWithIt", "isHouse", "(I)Z"⟩, 21) := ⟨⟨by decide +kernel, by decide +kernel⟩, lw_t1 (List.mem_of_getElem? (i := 31) rfl), lw_t3 (List.mem_of_getElem? (i := 59) rfl), lw_t3 (List.mem_of_getElem? (i := 60) rfl)⟩
theorem lw_p6 : lw_okq (⟨"SoldWithIt", "houses", "()I"⟩, 21) := ⟨⟨by decide +kernel, by decide +kernel⟩, lw_t1 (List.mem_of_getElem? (i := 31) rfl), lw_t3 (List.mem_of_getElem? (i := 63) rfl), lw_t3 (List.mem_of_getElem? (i := 64) rfl)⟩
theorem lw_p7 : lw_okq (⟨"SoldWithIt", "houseBy", "(II)I"⟩, 21) := ⟨⟨by decide +kernel, by decide +kernel⟩, lw_t1 (List.mem_of_getElem? (i := 31) rfl), lw_t3 (List.mem_of_getElem? (i := 75) rfl), lw_t3 (List.mem_of_getElem? (i := 76) rfl)⟩
theorem lw_p8 : lw_okq (⟨"SoldWithIt", "house", "(I)LSoldWithIt$House;"⟩, 21) := ⟨⟨by decide +kernel, by decide +kernel⟩, lw_t1 (List.mem_of_getElem? (i := 31) rfl), lw_t3 (List.mem_of_getElem? (i := 79) rfl), lw_t3 (List.mem_of_getElem? (i := 80) rfl)⟩
theorem lw_p9 : lw_okq (⟨"SoldWithIt", "within", "(I)I"⟩, 21) := ⟨⟨by decide +kernel, by decide +kernel⟩, lw_t1 (List.mem_of_getElem? (i := 31) rfl), lw_t3 (List.mem_of_getElem? (i := 104) rfl), lw_t3 (List.mem_of_getElem? (i := 105) rfl)⟩
theorem lw_p10 : lw_okq (⟨"SoldWithIt", "people", "()I"⟩, 21) := ⟨⟨by decide +kernel, by decide +kernel⟩, lw_t1 (List.mem_of_getElem? (i := 31) rfl), lw_t3 (List.mem_of_getElem? (i := 108) rfl), lw_t3 (List.mem_of_getElem? (i := 109) rfl)⟩
theorem lw_p11 : lw_okq (⟨"SoldWithIt", "placeOf", "(I)I"⟩, 21) := ⟨⟨by decide +kernel, by decide +kernel⟩, lw_t1 (List.mem_of_getElem? (i := 31) rfl), lw_t3 (List.mem_of_getElem? (i := 115) rfl), lw_t3 (List.mem_of_getElem? (i := 116) rfl)⟩
theorem lw_p12 : lw_okq (⟨"SoldWithIt", "person", "(I)LSoldWithIt$Person;"⟩, 21) := ⟨⟨by decide +kernel, by decide +kernel⟩, lw_t1 (List.mem_of_getElem? (i := 31) rfl), lw_t3 (List.mem_of_getElem? (i := 119) rfl), lw_t3 (List.mem_of_getElem? (i := 120) rfl)⟩
theorem lw_p13 : lw_okq (⟨"SoldWithIt", "isPerson", "(I)Z"⟩, 21) := ⟨⟨by decide +kernel, by decide +kernel⟩, lw_t1 (List.mem_of_getElem? (i := 31) rfl), lw_t3 (List.mem_of_getElem? (i := 131) rfl), lw_t3 (List.mem_of_getElem? (i := 132) rfl)⟩
theorem lw_p14 : lw_okq (⟨"SoldWithIt", "personBy", "(II)I"⟩, 21) := ⟨⟨by decide +kernel, by decide +kernel⟩, lw_t1 (List.mem_of_getElem? (i := 31) rfl), lw_t3 (List.mem_of_getElem? (i := 135) rfl), lw_t3 (List.mem_of_getElem? (i := 136) rfl)⟩
theorem lw_p15 : lw_okq (⟨"SoldWithIt", "ownedBy", "(I)I"⟩, 21) := ⟨⟨by decide +kernel, by decide +kernel⟩, lw_t1 (List.mem_of_getElem? (i := 31) rfl), lw_t3 (List.mem_of_getElem? (i := 142) rfl), lw_t3 (List.mem_of_getElem? (i := 143) rfl)⟩
def lw_privs_1 : List (MethodName × Nat) := [(⟨"SoldWithIt", "faultOf", "(I)I"⟩, 21), (⟨"java/lang/Throwable", "fillInStackTrace", "(I)Ljava/lang/Throwable;"⟩, 6), (⟨"java/util/ArrayList", "add", "(Ljava/lang/Object;[Ljava/lang/Object;I)V"⟩, 3), (⟨"java/util/ArrayList", "grow", "()[Ljava/lang/Object;"⟩, 3), (⟨"java/util/ArrayList", "grow", "(I)[Ljava/lang/Object;"⟩, 3), (⟨"SoldWithIt", "isHouse", "(I)Z"⟩, 21), (⟨"SoldWithIt", "houses", "()I"⟩, 21), (⟨"SoldWithIt", "houseBy", "(II)I"⟩, 21), (⟨"SoldWithIt", "house", "(I)LSoldWithIt$House;"⟩, 21), (⟨"SoldWithIt", "within", "(I)I"⟩, 21), (⟨"SoldWithIt", "people", "()I"⟩, 21), (⟨"SoldWithIt", "placeOf", "(I)I"⟩, 21), (⟨"SoldWithIt", "person", "(I)LSoldWithIt$Person;"⟩, 21), (⟨"SoldWithIt", "isPerson", "(I)Z"⟩, 21), (⟨"SoldWithIt", "personBy", "(II)I"⟩, 21), (⟨"SoldWithIt", "ownedBy", "(I)I"⟩, 21)]
theorem lw_r1 : ∀ q ∈ lw_privs_1, lw_okq q := List.forall_mem_cons.mpr ⟨lw_p0, List.forall_mem_cons.mpr ⟨lw_p1, List.forall_mem_cons.mpr ⟨lw_p2, List.forall_mem_cons.mpr ⟨lw_p3, List.forall_mem_cons.mpr ⟨lw_p4, List.forall_mem_cons.mpr ⟨lw_p5, List.forall_mem_cons.mpr ⟨lw_p6, List.forall_mem_cons.mpr ⟨lw_p7, List.forall_mem_cons.mpr ⟨lw_p8, List.forall_mem_cons.mpr ⟨lw_p9, List.forall_mem_cons.mpr ⟨lw_p10, List.forall_mem_cons.mpr ⟨lw_p11, List.forall_mem_cons.mpr ⟨lw_p12, List.forall_mem_cons.mpr ⟨lw_p13, List.forall_mem_cons.mpr ⟨lw_p14, List.forall_mem_cons.mpr ⟨lw_p15, fun _ h => absurd h List.not_mem_nil⟩⟩⟩⟩⟩⟩⟩⟩⟩⟩⟩⟩⟩⟩⟩⟩
theorem lw_p16 : lw_okq (⟨"SoldWithIt", "met", "(I)I"⟩, 21) := ⟨⟨by decide +kernel, by decide +kernel⟩, lw_t1 (List.mem_of_getElem? (i := 31) rfl), lw_t3 (List.mem_of_getElem? (i := 166) rfl), lw_t3 (List.mem_of_getElem? (i := 167) rfl)⟩
theorem lw_p17 : lw_okq (⟨"SoldWithIt", "isSo", "(I)Z"⟩, 21) := ⟨⟨by decide +kernel, by decide +kernel⟩, lw_t1 (List.mem_of_getElem? (i := 31) rfl), lw_t3 (List.mem_of_getElem? (i := 195) rfl), lw_t3 (List.mem_of_getElem? (i := 196) rfl)⟩
theorem lw_p18 : lw_okq (⟨"SoldWithIt", "find", "()V"⟩, 21) := ⟨⟨by decide +kernel, by decide +kernel⟩, lw_t1 (List.mem_of_getElem? (i := 31) rfl), lw_t3 (List.mem_of_getElem? (i := 199) rfl), lw_t3 (List.mem_of_getElem? (i := 200) rfl)⟩
theorem lw_p19 : lw_okq (⟨"SoldWithIt", "keeps", "(I)V"⟩, 21) := ⟨⟨by decide +kernel, by decide +kernel⟩, lw_t1 (List.mem_of_getElem? (i := 31) rfl), lw_t3 (List.mem_of_getElem? (i := 219) rfl), lw_t3 (List.mem_of_getElem? (i := 220) rfl)⟩
theorem lw_p20 : lw_okq (⟨"SoldWithIt$Noon", "goes", "(II)V"⟩, 6) := ⟨⟨by decide +kernel, by decide +kernel⟩, lw_t1 (List.mem_of_getElem? (i := 107) rfl), lw_t3 (List.mem_of_getElem? (i := 230) rfl), lw_t3 (List.mem_of_getElem? (i := 231) rfl)⟩
theorem lw_p21 : lw_okq (⟨"SoldWithIt$Noon", "takes", "(II)V"⟩, 6) := ⟨⟨by decide +kernel, by decide +kernel⟩, lw_t1 (List.mem_of_getElem? (i := 107) rfl), lw_t3 (List.mem_of_getElem? (i := 237) rfl), lw_t3 (List.mem_of_getElem? (i := 238) rfl)⟩
theorem lw_p22 : lw_okq (⟨"SoldWithIt", "lengthOf", "(I)I"⟩, 21) := ⟨⟨by decide +kernel, by decide +kernel⟩, lw_t1 (List.mem_of_getElem? (i := 31) rfl), lw_t4 (List.mem_of_getElem? (i := 19) rfl), lw_t4 (List.mem_of_getElem? (i := 20) rfl)⟩
theorem lw_p23 : lw_okq (⟨"SoldWithIt", "tells", "([[IIII)I"⟩, 21) := ⟨⟨by decide +kernel, by decide +kernel⟩, lw_t1 (List.mem_of_getElem? (i := 31) rfl), lw_t4 (List.mem_of_getElem? (i := 27) rfl), lw_t4 (List.mem_of_getElem? (i := 28) rfl)⟩
theorem lw_p24 : lw_okq (⟨"SoldWithIt", "gainOf", "(I)I"⟩, 21) := ⟨⟨by decide +kernel, by decide +kernel⟩, lw_t1 (List.mem_of_getElem? (i := 31) rfl), lw_t4 (List.mem_of_getElem? (i := 45) rfl), lw_t4 (List.mem_of_getElem? (i := 46) rfl)⟩
theorem lw_p25 : lw_okq (⟨"SoldWithIt", "bestOf", "(II)I"⟩, 21) := ⟨⟨by decide +kernel, by decide +kernel⟩, lw_t1 (List.mem_of_getElem? (i := 31) rfl), lw_t4 (List.mem_of_getElem? (i := 57) rfl), lw_t4 (List.mem_of_getElem? (i := 58) rfl)⟩
theorem lw_p26 : lw_okq (⟨"SoldWithIt", "rows", "()I"⟩, 21) := ⟨⟨by decide +kernel, by decide +kernel⟩, lw_t1 (List.mem_of_getElem? (i := 31) rfl), lw_t4 (List.mem_of_getElem? (i := 61) rfl), lw_t4 (List.mem_of_getElem? (i := 62) rfl)⟩
theorem lw_p27 : lw_okq (⟨"SoldWithIt", "places", "()I"⟩, 21) := ⟨⟨by decide +kernel, by decide +kernel⟩, lw_t1 (List.mem_of_getElem? (i := 31) rfl), lw_t4 (List.mem_of_getElem? (i := 65) rfl), lw_t4 (List.mem_of_getElem? (i := 66) rfl)⟩
theorem lw_p28 : lw_okq (⟨"SoldWithIt", "triedAt", "(I)LSoldWithIt$Noon;"⟩, 21) := ⟨⟨by decide +kernel, by decide +kernel⟩, lw_t1 (List.mem_of_getElem? (i := 31) rfl), lw_t4 (List.mem_of_getElem? (i := 69) rfl), lw_t4 (List.mem_of_getElem? (i := 70) rfl)⟩
theorem lw_p29 : lw_okq (⟨"SoldWithIt", "placeIn", "(II)I"⟩, 21) := ⟨⟨by decide +kernel, by decide +kernel⟩, lw_t1 (List.mem_of_getElem? (i := 31) rfl), lw_t4 (List.mem_of_getElem? (i := 73) rfl), lw_t4 (List.mem_of_getElem? (i := 74) rfl)⟩
theorem lw_p30 : lw_okq (⟨"SoldWithIt", "weight", "(I)I"⟩, 21) := ⟨⟨by decide +kernel, by decide +kernel⟩, lw_t1 (List.mem_of_getElem? (i := 31) rfl), lw_t4 (List.mem_of_getElem? (i := 77) rfl), lw_t4 (List.mem_of_getElem? (i := 78) rfl)⟩
theorem lw_p31 : lw_okq (⟨"SoldWithIt", "restOf", "(I)I"⟩, 21) := ⟨⟨by decide +kernel, by decide +kernel⟩, lw_t1 (List.mem_of_getElem? (i := 31) rfl), lw_t4 (List.mem_of_getElem? (i := 91) rfl), lw_t4 (List.mem_of_getElem? (i := 92) rfl)⟩
def lw_privs_2 : List (MethodName × Nat) := [(⟨"SoldWithIt", "met", "(I)I"⟩, 21), (⟨"SoldWithIt", "isSo", "(I)Z"⟩, 21), (⟨"SoldWithIt", "find", "()V"⟩, 21), (⟨"SoldWithIt", "keeps", "(I)V"⟩, 21), (⟨"SoldWithIt$Noon", "goes", "(II)V"⟩, 6), (⟨"SoldWithIt$Noon", "takes", "(II)V"⟩, 6), (⟨"SoldWithIt", "lengthOf", "(I)I"⟩, 21), (⟨"SoldWithIt", "tells", "([[IIII)I"⟩, 21), (⟨"SoldWithIt", "gainOf", "(I)I"⟩, 21), (⟨"SoldWithIt", "bestOf", "(II)I"⟩, 21), (⟨"SoldWithIt", "rows", "()I"⟩, 21), (⟨"SoldWithIt", "places", "()I"⟩, 21), (⟨"SoldWithIt", "triedAt", "(I)LSoldWithIt$Noon;"⟩, 21), (⟨"SoldWithIt", "placeIn", "(II)I"⟩, 21), (⟨"SoldWithIt", "weight", "(I)I"⟩, 21), (⟨"SoldWithIt", "restOf", "(I)I"⟩, 21)]
theorem lw_r2 : ∀ q ∈ lw_privs_2, lw_okq q := List.forall_mem_cons.mpr ⟨lw_p16, List.forall_mem_cons.mpr ⟨lw_p17, List.forall_mem_cons.mpr ⟨lw_p18, List.forall_mem_cons.mpr ⟨lw_p19, List.forall_mem_cons.mpr ⟨lw_p20, List.forall_mem_cons.mpr ⟨lw_p21, List.forall_mem_cons.mpr ⟨lw_p22, List.forall_mem_cons.mpr ⟨lw_p23, List.forall_mem_cons.mpr ⟨lw_p24, List.forall_mem_cons.mpr ⟨lw_p25, List.forall_mem_cons.mpr ⟨lw_p26, List.forall_mem_cons.mpr ⟨lw_p27, List.forall_mem_cons.mpr ⟨lw_p28, List.forall_mem_cons.mpr ⟨lw_p29, List.forall_mem_cons.mpr ⟨lw_p30, List.forall_mem_cons.mpr ⟨lw_p31, fun _ h => absurd h List.not_mem_nil⟩⟩⟩⟩⟩⟩⟩⟩⟩⟩⟩⟩⟩⟩⟩⟩
theorem lw_p32 : lw_okq (⟨"SoldWithIt", "findKept", "()V"⟩, 21) := ⟨⟨by decide +kernel, by decide +kernel⟩, lw_t1 (List.mem_of_getElem? (i := 31) rfl), lw_t4 (List.mem_of_getElem? (i := 95) rfl), lw_t4 (List.mem_of_getElem? (i := 96) rfl)⟩
theorem lw_p33 : lw_okq (⟨"SoldWithIt", "rests", "(I)Z"⟩, 21) := ⟨⟨by decide +kernel, by decide +kernel⟩, lw_t1 (List.mem_of_getElem? (i := 31) rfl), lw_t4 (List.mem_of_getElem? (i := 99) rfl), lw_t4 (List.mem_of_getElem? (i := 100) rfl)⟩
theorem lw_p34 : lw_okq (⟨"SoldWithIt", "liking", "(II)I"⟩, 21) := ⟨⟨by decide +kernel, by decide +kernel⟩, lw_t1 (List.mem_of_getElem? (i := 31) rfl), lw_t4 (List.mem_of_getElem? (i := 107) rfl), lw_t4 (List.mem_of_getElem? (i := 108) rfl)⟩
theorem lw_p35 : lw_okq (⟨"SoldWithIt", "outOf", "(I)I"⟩, 21) := ⟨⟨by decide +kernel, by decide +kernel⟩, lw_t1 (List.mem_of_getElem? (i := 31) rfl), lw_t4 (List.mem_of_getElem? (i := 115) rfl), lw_t4 (List.mem_of_getElem? (i := 116) rfl)⟩
theorem lw_p36 : lw_okq (⟨"SoldWithIt", "isTold", "(I)Z"⟩, 21) := ⟨⟨by decide +kernel, by decide +kernel⟩, lw_t1 (List.mem_of_getElem? (i := 31) rfl), lw_t4 (List.mem_of_getElem? (i := 119) rfl), lw_t4 (List.mem_of_getElem? (i := 120) rfl)⟩
theorem lw_p37 : lw_okq (⟨"SoldWithIt", "valueOf", "(II)I"⟩, 21) := ⟨⟨by decide +kernel, by decide +kernel⟩, lw_t1 (List.mem_of_getElem? (i := 31) rfl), lw_t4 (List.mem_of_getElem? (i := 131) rfl), lw_t4 (List.mem_of_getElem? (i := 132) rfl)⟩
theorem lw_p38 : lw_okq (⟨"SoldWithIt", "wouldChange", "(II)Z"⟩, 21) := ⟨⟨by decide +kernel, by decide +kernel⟩, lw_t1 (List.mem_of_getElem? (i := 31) rfl), lw_t4 (List.mem_of_getElem? (i := 139) rfl), lw_t4 (List.mem_of_getElem? (i := 140) rfl)⟩
theorem lw_p39 : lw_okq (⟨"SoldWithIt", "changesNow", "()I"⟩, 21) := ⟨⟨by decide +kernel, by decide +kernel⟩, lw_t1 (List.mem_of_getElem? (i := 31) rfl), lw_t4 (List.mem_of_getElem? (i := 147) rfl), lw_t4 (List.mem_of_getElem? (i := 148) rfl)⟩
theorem lw_p40 : lw_okq (⟨"SoldWithIt$Sales", "told", "()I"⟩, 4) := ⟨⟨by decide +kernel, by decide +kernel⟩, lw_t1 (List.mem_of_getElem? (i := 139) rfl), lw_t4 (List.mem_of_getElem? (i := 159) rfl), lw_t4 (List.mem_of_getElem? (i := 160) rfl)⟩
theorem lw_p41 : lw_okq (⟨"SoldWithIt$Sales", "comes", "(II)V"⟩, 4) := ⟨⟨by decide +kernel, by decide +kernel⟩, lw_t1 (List.mem_of_getElem? (i := 139) rfl), lw_t4 (List.mem_of_getElem? (i := 165) rfl), lw_t4 (List.mem_of_getElem? (i := 166) rfl)⟩
theorem lw_p42 : lw_okq (⟨"SoldWithIt$Sales", "goesOn", "(I)V"⟩, 4) := ⟨⟨by decide +kernel, by decide +kernel⟩, lw_t1 (List.mem_of_getElem? (i := 139) rfl), lw_t4 (List.mem_of_getElem? (i := 169) rfl), lw_t4 (List.mem_of_getElem? (i := 170) rfl)⟩
theorem lw_p43 : lw_okq (⟨"SoldWithIt", "comers", "(II)I"⟩, 21) := ⟨⟨by decide +kernel, by decide +kernel⟩, lw_t1 (List.mem_of_getElem? (i := 31) rfl), lw_t4 (List.mem_of_getElem? (i := 182) rfl), lw_t4 (List.mem_of_getElem? (i := 183) rfl)⟩
theorem lw_p44 : lw_okq (⟨"SoldWithIt", "inviteOf", "(II)I"⟩, 21) := ⟨⟨by decide +kernel, by decide +kernel⟩, lw_t1 (List.mem_of_getElem? (i := 31) rfl), lw_t4 (List.mem_of_getElem? (i := 190) rfl), lw_t4 (List.mem_of_getElem? (i := 191) rfl)⟩
theorem lw_p45 : lw_okq (⟨"SoldWithIt", "wereOf", "(I)I"⟩, 21) := ⟨⟨by decide +kernel, by decide +kernel⟩, lw_t1 (List.mem_of_getElem? (i := 31) rfl), lw_t4 (List.mem_of_getElem? (i := 211) rfl), lw_t4 (List.mem_of_getElem? (i := 212) rfl)⟩
theorem lw_p46 : lw_okq (⟨"SoldWithIt", "findBeen", "()I"⟩, 21) := ⟨⟨by decide +kernel, by decide +kernel⟩, lw_t1 (List.mem_of_getElem? (i := 31) rfl), lw_t4 (List.mem_of_getElem? (i := 215) rfl), lw_t4 (List.mem_of_getElem? (i := 216) rfl)⟩
theorem lw_p47 : lw_okq (⟨"SoldWithIt", "fits", "(LSoldWithIt$Noon;)Z"⟩, 21) := ⟨⟨by decide +kernel, by decide +kernel⟩, lw_t1 (List.mem_of_getElem? (i := 31) rfl), lw_t4 (List.mem_of_getElem? (i := 219) rfl), lw_t4 (List.mem_of_getElem? (i := 220) rfl)⟩
def lw_privs_3 : List (MethodName × Nat) := [(⟨"SoldWithIt", "findKept", "()V"⟩, 21), (⟨"SoldWithIt", "rests", "(I)Z"⟩, 21), (⟨"SoldWithIt", "liking", "(II)I"⟩, 21), (⟨"SoldWithIt", "outOf", "(I)I"⟩, 21), (⟨"SoldWithIt", "isTold", "(I)Z"⟩, 21), (⟨"SoldWithIt", "valueOf", "(II)I"⟩, 21), (⟨"SoldWithIt", "wouldChange", "(II)Z"⟩, 21), (⟨"SoldWithIt", "changesNow", "()I"⟩, 21), (⟨"SoldWithIt$Sales", "told", "()I"⟩, 4), (⟨"SoldWithIt$Sales", "comes", "(II)V"⟩, 4), (⟨"SoldWithIt$Sales", "goesOn", "(I)V"⟩, 4), (⟨"SoldWithIt", "comers", "(II)I"⟩, 21), (⟨"SoldWithIt", "inviteOf", "(II)I"⟩, 21), (⟨"SoldWithIt", "wereOf", "(I)I"⟩, 21), (⟨"SoldWithIt", "findBeen", "()I"⟩, 21), (⟨"SoldWithIt", "fits", "(LSoldWithIt$Noon;)Z"⟩, 21)]
theorem lw_r3 : ∀ q ∈ lw_privs_3, lw_okq q := List.forall_mem_cons.mpr ⟨lw_p32, List.forall_mem_cons.mpr ⟨lw_p33, List.forall_mem_cons.mpr ⟨lw_p34, List.forall_mem_cons.mpr ⟨lw_p35, List.forall_mem_cons.mpr ⟨lw_p36, List.forall_mem_cons.mpr ⟨lw_p37, List.forall_mem_cons.mpr ⟨lw_p38, List.forall_mem_cons.mpr ⟨lw_p39, List.forall_mem_cons.mpr ⟨lw_p40, List.forall_mem_cons.mpr ⟨lw_p41, List.forall_mem_cons.mpr ⟨lw_p42, List.forall_mem_cons.mpr ⟨lw_p43, List.forall_mem_cons.mpr ⟨lw_p44, List.forall_mem_cons.mpr ⟨lw_p45, List.forall_mem_cons.mpr ⟨lw_p46, List.forall_mem_cons.mpr ⟨lw_p47, fun _ h => absurd h List.not_mem_nil⟩⟩⟩⟩⟩⟩⟩⟩⟩⟩⟩⟩⟩⟩⟩⟩
theorem lw_p48 : lw_okq (⟨"SoldWithIt", "bedNow", "()I"⟩, 21) := ⟨⟨by decide +kernel, by decide +kernel⟩, lw_t1 (List.mem_of_getElem? (i := 31) rfl), lw_t4 (List.mem_of_getElem? (i := 229) rfl), lw_t4 (List.mem_of_getElem? (i := 230) rfl)⟩
theorem lw_p49 : lw_okq (⟨"SoldWithIt", "lowest", "(I)I"⟩, 21) := ⟨⟨by decide +kernel, by decide +kernel⟩, lw_t1 (List.mem_of_getElem? (i := 31) rfl), lw_t5 (List.mem_of_getElem? (i := 81) rfl), lw_t5 (List.mem_of_getElem? (i := 82) rfl)⟩
theorem lw_p50 : lw_okq (⟨"SoldWithItModel", "faultOf", "(I)I"⟩, 33) := ⟨⟨by decide +kernel, by decide +kernel⟩, lw_t5 (List.mem_of_getElem? (i := 114) rfl), lw_t5 (List.mem_of_getElem? (i := 236) rfl), lw_t5 (List.mem_of_getElem? (i := 237) rfl)⟩
theorem lw_p51 : lw_okq (⟨"SoldWithItModel", "readsHouses", "()I"⟩, 33) := ⟨⟨by decide +kernel, by decide +kernel⟩, lw_t5 (List.mem_of_getElem? (i := 114) rfl), lw_t6 (List.mem_of_getElem? (i := 0) rfl), lw_t6 (List.mem_of_getElem? (i := 1) rfl)⟩
theorem lw_p52 : lw_okq (⟨"SoldWithItModel", "byteAt", "(II)I"⟩, 33) := ⟨⟨by decide +kernel, by decide +kernel⟩, lw_t5 (List.mem_of_getElem? (i := 114) rfl), lw_t6 (List.mem_of_getElem? (i := 4) rfl), lw_t6 (List.mem_of_getElem? (i := 5) rfl)⟩
theorem lw_p53 : lw_okq (⟨"SoldWithItModel", "readsPeople", "()I"⟩, 33) := ⟨⟨by decide +kernel, by decide +kernel⟩, lw_t5 (List.mem_of_getElem? (i := 114) rfl), lw_t6 (List.mem_of_getElem? (i := 8) rfl), lw_t6 (List.mem_of_getElem? (i := 9) rfl)⟩
theorem lw_p54 : lw_okq (⟨"SoldWithItModel", "isHouse", "(I)Z"⟩, 33) := ⟨⟨by decide +kernel, by decide +kernel⟩, lw_t5 (List.mem_of_getElem? (i := 114) rfl), lw_t6 (List.mem_of_getElem? (i := 16) rfl), lw_t6 (List.mem_of_getElem? (i := 17) rfl)⟩
theorem lw_p55 : lw_okq (⟨"SoldWithItModel", "reads", "()V"⟩, 33) := ⟨⟨by decide +kernel, by decide +kernel⟩, lw_t5 (List.mem_of_getElem? (i := 114) rfl), lw_t6 (List.mem_of_getElem? (i := 20) rfl), lw_t6 (List.mem_of_getElem? (i := 21) rfl)⟩
theorem lw_p56 : lw_okq (⟨"SoldWithItModel", "houseOf", "(II)I"⟩, 33) := ⟨⟨by decide +kernel, by decide +kernel⟩, lw_t5 (List.mem_of_getElem? (i := 114) rfl), lw_t6 (List.mem_of_getElem? (i := 24) rfl), lw_t6 (List.mem_of_getElem? (i := 25) rfl)⟩
theorem lw_p57 : lw_okq (⟨"SoldWithItModel", "isPerson", "(I)Z"⟩, 33) := ⟨⟨by decide +kernel, by decide +kernel⟩, lw_t5 (List.mem_of_getElem? (i := 114) rfl), lw_t6 (List.mem_of_getElem? (i := 32) rfl), lw_t6 (List.mem_of_getElem? (i := 33) rfl)⟩
theorem lw_p58 : lw_okq (⟨"SoldWithItModel", "personOf", "(II)I"⟩, 33) := ⟨⟨by decide +kernel, by decide +kernel⟩, lw_t5 (List.mem_of_getElem? (i := 114) rfl), lw_t6 (List.mem_of_getElem? (i := 36) rfl), lw_t6 (List.mem_of_getElem? (i := 37) rfl)⟩
theorem lw_p59 : lw_okq (⟨"SoldWithItModel", "saleMore", "(II)I"⟩, 33) := ⟨⟨by decide +kernel, by decide +kernel⟩, lw_t5 (List.mem_of_getElem? (i := 114) rfl), lw_t6 (List.mem_of_getElem? (i := 48) rfl), lw_t6 (List.mem_of_getElem? (i := 49) rfl)⟩
theorem lw_p60 : lw_okq (⟨"SoldWithItModel", "meets", "(I)I"⟩, 33) := ⟨⟨by decide +kernel, by decide +kernel⟩, lw_t5 (List.mem_of_getElem? (i := 114) rfl), lw_t6 (List.mem_of_getElem? (i := 62) rfl), lw_t6 (List.mem_of_getElem? (i := 63) rfl)⟩
theorem lw_p61 : lw_okq (⟨"SoldWithItModel", "lays", "(I)V"⟩, 33) := ⟨⟨by decide +kernel, by decide +kernel⟩, lw_t5 (List.mem_of_getElem? (i := 114) rfl), lw_t6 (List.mem_of_getElem? (i := 74) rfl), lw_t6 (List.mem_of_getElem? (i := 75) rfl)⟩
theorem lw_p62 : lw_okq (⟨"SoldWithItModel", "runs", "(I)V"⟩, 33) := ⟨⟨by decide +kernel, by decide +kernel⟩, lw_t5 (List.mem_of_getElem? (i := 114) rfl), lw_t6 (List.mem_of_getElem? (i := 78) rfl), lw_t6 (List.mem_of_getElem? (i := 79) rfl)⟩
theorem lw_p63 : lw_okq (⟨"SoldWithItModel", "begins", "()V"⟩, 33) := ⟨⟨by decide +kernel, by decide +kernel⟩, lw_t5 (List.mem_of_getElem? (i := 114) rfl), lw_t6 (List.mem_of_getElem? (i := 82) rfl), lw_t6 (List.mem_of_getElem? (i := 83) rfl)⟩
def lw_privs_4 : List (MethodName × Nat) := [(⟨"SoldWithIt", "bedNow", "()I"⟩, 21), (⟨"SoldWithIt", "lowest", "(I)I"⟩, 21), (⟨"SoldWithItModel", "faultOf", "(I)I"⟩, 33), (⟨"SoldWithItModel", "readsHouses", "()I"⟩, 33), (⟨"SoldWithItModel", "byteAt", "(II)I"⟩, 33), (⟨"SoldWithItModel", "readsPeople", "()I"⟩, 33), (⟨"SoldWithItModel", "isHouse", "(I)Z"⟩, 33), (⟨"SoldWithItModel", "reads", "()V"⟩, 33), (⟨"SoldWithItModel", "houseOf", "(II)I"⟩, 33), (⟨"SoldWithItModel", "isPerson", "(I)Z"⟩, 33), (⟨"SoldWithItModel", "personOf", "(II)I"⟩, 33), (⟨"SoldWithItModel", "saleMore", "(II)I"⟩, 33), (⟨"SoldWithItModel", "meets", "(I)I"⟩, 33), (⟨"SoldWithItModel", "lays", "(I)V"⟩, 33), (⟨"SoldWithItModel", "runs", "(I)V"⟩, 33), (⟨"SoldWithItModel", "begins", "()V"⟩, 33)]
theorem lw_r4 : ∀ q ∈ lw_privs_4, lw_okq q := List.forall_mem_cons.mpr ⟨lw_p48, List.forall_mem_cons.mpr ⟨lw_p49, List.forall_mem_cons.mpr ⟨lw_p50, List.forall_mem_cons.mpr ⟨lw_p51, List.forall_mem_cons.mpr ⟨lw_p52, List.forall_mem_cons.mpr ⟨lw_p53, List.forall_mem_cons.mpr ⟨lw_p54, List.forall_mem_cons.mpr ⟨lw_p55, List.forall_mem_cons.mpr ⟨lw_p56, List.forall_mem_cons.mpr ⟨lw_p57, List.forall_mem_cons.mpr ⟨lw_p58, List.forall_mem_cons.mpr ⟨lw_p59, List.forall_mem_cons.mpr ⟨lw_p60, List.forall_mem_cons.mpr ⟨lw_p61, List.forall_mem_cons.mpr ⟨lw_p62, List.forall_mem_cons.mpr ⟨lw_p63, fun _ h => absurd h List.not_mem_nil⟩⟩⟩⟩⟩⟩⟩⟩⟩⟩⟩⟩⟩⟩⟩⟩
theorem lw_p64 : lw_okq (⟨"SoldWithItModel", "sells", "(II)I"⟩, 33) := ⟨⟨by decide +kernel, by decide +kernel⟩, lw_t5 (List.mem_of_getElem? (i := 114) rfl), lw_t6 (List.mem_of_getElem? (i := 86) rfl), lw_t6 (List.mem_of_getElem? (i := 87) rfl)⟩
theorem lw_p65 : lw_okq (⟨"SoldWithItModel", "keeperOf", "(II)I"⟩, 33) := ⟨⟨by decide +kernel, by decide +kernel⟩, lw_t5 (List.mem_of_getElem? (i := 114) rfl), lw_t6 (List.mem_of_getElem? (i := 97) rfl), lw_t6 (List.mem_of_getElem? (i := 98) rfl)⟩
theorem lw_p66 : lw_okq (⟨"SoldWithItModel", "soldOf", "(II)I"⟩, 33) := ⟨⟨by decide +kernel, by decide +kernel⟩, lw_t5 (List.mem_of_getElem? (i := 114) rfl), lw_t6 (List.mem_of_getElem? (i := 105) rfl), lw_t6 (List.mem_of_getElem? (i := 106) rfl)⟩
theorem lw_p67 : lw_okq (⟨"SoldWithItModel", "lengthOf", "(I)I"⟩, 33) := ⟨⟨by decide +kernel, by decide +kernel⟩, lw_t5 (List.mem_of_getElem? (i := 114) rfl), lw_t6 (List.mem_of_getElem? (i := 113) rfl), lw_t6 (List.mem_of_getElem? (i := 114) rfl)⟩
theorem lw_p68 : lw_okq (⟨"SoldWithItModel", "gainOf", "(I)I"⟩, 33) := ⟨⟨by decide +kernel, by decide +kernel⟩, lw_t5 (List.mem_of_getElem? (i := 114) rfl), lw_t6 (List.mem_of_getElem? (i := 130) rfl), lw_t6 (List.mem_of_getElem? (i := 131) rfl)⟩
theorem lw_p69 : lw_okq (⟨"SoldWithItModel", "gainBy", "(I)I"⟩, 33) := ⟨⟨by decide +kernel, by decide +kernel⟩, lw_t5 (List.mem_of_getElem? (i := 114) rfl), lw_t6 (List.mem_of_getElem? (i := 134) rfl), lw_t6 (List.mem_of_getElem? (i := 135) rfl)⟩
theorem lw_p70 : lw_okq (⟨"SoldWithItModel", "bestOf", "(II)I"⟩, 33) := ⟨⟨by decide +kernel, by decide +kernel⟩, lw_t5 (List.mem_of_getElem? (i := 114) rfl), lw_t6 (List.mem_of_getElem? (i := 142) rfl), lw_t6 (List.mem_of_getElem? (i := 143) rfl)⟩
theorem lw_p71 : lw_okq (⟨"SoldWithItModel", "rows", "()I"⟩, 33) := ⟨⟨by decide +kernel, by decide +kernel⟩, lw_t5 (List.mem_of_getElem? (i := 114) rfl), lw_t6 (List.mem_of_getElem? (i := 147) rfl), lw_t6 (List.mem_of_getElem? (i := 148) rfl)⟩
theorem lw_p72 : lw_okq (⟨"SoldWithItModel", "places", "(I)V"⟩, 33) := ⟨⟨by decide +kernel, by decide +kernel⟩, lw_t5 (List.mem_of_getElem? (i := 114) rfl), lw_t6 (List.mem_of_getElem? (i := 151) rfl), lw_t6 (List.mem_of_getElem? (i := 152) rfl)⟩
theorem lw_p73 : lw_okq (⟨"SoldWithItModel", "restNow", "(I)I"⟩, 33) := ⟨⟨by decide +kernel, by decide +kernel⟩, lw_t5 (List.mem_of_getElem? (i := 114) rfl), lw_t6 (List.mem_of_getElem? (i := 159) rfl), lw_t6 (List.mem_of_getElem? (i := 160) rfl)⟩
theorem lw_p74 : lw_okq (⟨"SoldWithItModel", "restOf", "(I)I"⟩, 33) := ⟨⟨by decide +kernel, by decide +kernel⟩, lw_t5 (List.mem_of_getElem? (i := 114) rfl), lw_t6 (List.mem_of_getElem? (i := 163) rfl), lw_t6 (List.mem_of_getElem? (i := 164) rfl)⟩
theorem lw_p75 : lw_okq (⟨"SoldWithItModel", "outOf", "(I)I"⟩, 33) := ⟨⟨by decide +kernel, by decide +kernel⟩, lw_t5 (List.mem_of_getElem? (i := 114) rfl), lw_t6 (List.mem_of_getElem? (i := 172) rfl), lw_t6 (List.mem_of_getElem? (i := 173) rfl)⟩
theorem lw_p76 : lw_okq (⟨"SoldWithItModel", "isTold", "(I)Z"⟩, 33) := ⟨⟨by decide +kernel, by decide +kernel⟩, lw_t5 (List.mem_of_getElem? (i := 114) rfl), lw_t6 (List.mem_of_getElem? (i := 176) rfl), lw_t6 (List.mem_of_getElem? (i := 177) rfl)⟩
theorem lw_p77 : lw_okq (⟨"SoldWithItModel", "valueOf", "(II)I"⟩, 33) := ⟨⟨by decide +kernel, by decide +kernel⟩, lw_t5 (List.mem_of_getElem? (i := 114) rfl), lw_t6 (List.mem_of_getElem? (i := 184) rfl), lw_t6 (List.mem_of_getElem? (i := 185) rfl)⟩
theorem lw_p78 : lw_okq (⟨"SoldWithItModel", "isChange", "(II)Z"⟩, 33) := ⟨⟨by decide +kernel, by decide +kernel⟩, lw_t5 (List.mem_of_getElem? (i := 114) rfl), lw_t6 (List.mem_of_getElem? (i := 192) rfl), lw_t6 (List.mem_of_getElem? (i := 193) rfl)⟩
theorem lw_p79 : lw_okq (⟨"SoldWithItModel", "changesNow", "()I"⟩, 33) := ⟨⟨by decide +kernel, by decide +kernel⟩, lw_t5 (List.mem_of_getElem? (i := 114) rfl), lw_t6 (List.mem_of_getElem? (i := 200) rfl), lw_t6 (List.mem_of_getElem? (i := 201) rfl)⟩
def lw_privs_5 : List (MethodName × Nat) := [(⟨"SoldWithItModel", "sells", "(II)I"⟩, 33), (⟨"SoldWithItModel", "keeperOf", "(II)I"⟩, 33), (⟨"SoldWithItModel", "soldOf", "(II)I"⟩, 33), (⟨"SoldWithItModel", "lengthOf", "(I)I"⟩, 33), (⟨"SoldWithItModel", "gainOf", "(I)I"⟩, 33), (⟨"SoldWithItModel", "gainBy", "(I)I"⟩, 33), (⟨"SoldWithItModel", "bestOf", "(II)I"⟩, 33), (⟨"SoldWithItModel", "rows", "()I"⟩, 33), (⟨"SoldWithItModel", "places", "(I)V"⟩, 33), (⟨"SoldWithItModel", "restNow", "(I)I"⟩, 33), (⟨"SoldWithItModel", "restOf", "(I)I"⟩, 33), (⟨"SoldWithItModel", "outOf", "(I)I"⟩, 33), (⟨"SoldWithItModel", "isTold", "(I)Z"⟩, 33), (⟨"SoldWithItModel", "valueOf", "(II)I"⟩, 33), (⟨"SoldWithItModel", "isChange", "(II)Z"⟩, 33), (⟨"SoldWithItModel", "changesNow", "()I"⟩, 33)]
theorem lw_r5 : ∀ q ∈ lw_privs_5, lw_okq q := List.forall_mem_cons.mpr ⟨lw_p64, List.forall_mem_cons.mpr ⟨lw_p65, List.forall_mem_cons.mpr ⟨lw_p66, List.forall_mem_cons.mpr ⟨lw_p67, List.forall_mem_cons.mpr ⟨lw_p68, List.forall_mem_cons.mpr ⟨lw_p69, List.forall_mem_cons.mpr ⟨lw_p70, List.forall_mem_cons.mpr ⟨lw_p71, List.forall_mem_cons.mpr ⟨lw_p72, List.forall_mem_cons.mpr ⟨lw_p73, List.forall_mem_cons.mpr ⟨lw_p74, List.forall_mem_cons.mpr ⟨lw_p75, List.forall_mem_cons.mpr ⟨lw_p76, List.forall_mem_cons.mpr ⟨lw_p77, List.forall_mem_cons.mpr ⟨lw_p78, List.forall_mem_cons.mpr ⟨lw_p79, fun _ h => absurd h List.not_mem_nil⟩⟩⟩⟩⟩⟩⟩⟩⟩⟩⟩⟩⟩⟩⟩⟩
theorem lw_p80 : lw_okq (⟨"SoldWithItModel", "shouldOf", "(I)I"⟩, 33) := ⟨⟨by decide +kernel, by decide +kernel⟩, lw_t5 (List.mem_of_getElem? (i := 114) rfl), lw_t6 (List.mem_of_getElem? (i := 208) rfl), lw_t6 (List.mem_of_getElem? (i := 209) rfl)⟩
theorem lw_p81 : lw_okq (⟨"SoldWithItModel", "stateNow", "()I"⟩, 33) := ⟨⟨by decide +kernel, by decide +kernel⟩, lw_t5 (List.mem_of_getElem? (i := 114) rfl), lw_t6 (List.mem_of_getElem? (i := 212) rfl), lw_t6 (List.mem_of_getElem? (i := 213) rfl)⟩
theorem lw_p82 : lw_okq (⟨"SoldWithItModel", "ownsBy", "(I)V"⟩, 33) := ⟨⟨by decide +kernel, by decide +kernel⟩, lw_t5 (List.mem_of_getElem? (i := 114) rfl), lw_t6 (List.mem_of_getElem? (i := 216) rfl), lw_t6 (List.mem_of_getElem? (i := 217) rfl)⟩
theorem lw_p83 : lw_okq (⟨"SoldWithItModel", "comeOf", "(II)I"⟩, 33) := ⟨⟨by decide +kernel, by decide +kernel⟩, lw_t5 (List.mem_of_getElem? (i := 114) rfl), lw_t6 (List.mem_of_getElem? (i := 224) rfl), lw_t6 (List.mem_of_getElem? (i := 225) rfl)⟩
theorem lw_p84 : lw_okq (⟨"SoldWithItModel", "inviteOf", "(II)I"⟩, 33) := ⟨⟨by decide +kernel, by decide +kernel⟩, lw_t5 (List.mem_of_getElem? (i := 114) rfl), lw_t6 (List.mem_of_getElem? (i := 232) rfl), lw_t6 (List.mem_of_getElem? (i := 233) rfl)⟩
theorem lw_p85 : lw_okq (⟨"SoldWithItModel", "waysNow", "()I"⟩, 33) := ⟨⟨by decide +kernel, by decide +kernel⟩, lw_t5 (List.mem_of_getElem? (i := 114) rfl), lw_t7 (List.mem_of_getElem? (i := 11) rfl), lw_t7 (List.mem_of_getElem? (i := 12) rfl)⟩
theorem lw_p86 : lw_okq (⟨"SoldWithItModel", "lacks", "(III)I"⟩, 33) := ⟨⟨by decide +kernel, by decide +kernel⟩, lw_t5 (List.mem_of_getElem? (i := 114) rfl), lw_t7 (List.mem_of_getElem? (i := 31) rfl), lw_t7 (List.mem_of_getElem? (i := 32) rfl)⟩
theorem lw_p87 : lw_okq (⟨"SoldWithItModel", "keep", "(III)V"⟩, 33) := ⟨⟨by decide +kernel, by decide +kernel⟩, lw_t5 (List.mem_of_getElem? (i := 114) rfl), lw_t7 (List.mem_of_getElem? (i := 35) rfl), lw_t7 (List.mem_of_getElem? (i := 36) rfl)⟩
theorem lw_p88 : lw_okq (⟨"SoldWithItModel", "sumOf", "(I)I"⟩, 33) := ⟨⟨by decide +kernel, by decide +kernel⟩, lw_t5 (List.mem_of_getElem? (i := 114) rfl), lw_t7 (List.mem_of_getElem? (i := 56) rfl), lw_t7 (List.mem_of_getElem? (i := 57) rfl)⟩
def lw_privs_6 : List (MethodName × Nat) := [(⟨"SoldWithItModel", "shouldOf", "(I)I"⟩, 33), (⟨"SoldWithItModel", "stateNow", "()I"⟩, 33), (⟨"SoldWithItModel", "ownsBy", "(I)V"⟩, 33), (⟨"SoldWithItModel", "comeOf", "(II)I"⟩, 33), (⟨"SoldWithItModel", "inviteOf", "(II)I"⟩, 33), (⟨"SoldWithItModel", "waysNow", "()I"⟩, 33), (⟨"SoldWithItModel", "lacks", "(III)I"⟩, 33), (⟨"SoldWithItModel", "keep", "(III)V"⟩, 33), (⟨"SoldWithItModel", "sumOf", "(I)I"⟩, 33)]
theorem lw_r6 : ∀ q ∈ lw_privs_6, lw_okq q := List.forall_mem_cons.mpr ⟨lw_p80, List.forall_mem_cons.mpr ⟨lw_p81, List.forall_mem_cons.mpr ⟨lw_p82, List.forall_mem_cons.mpr ⟨lw_p83, List.forall_mem_cons.mpr ⟨lw_p84, List.forall_mem_cons.mpr ⟨lw_p85, List.forall_mem_cons.mpr ⟨lw_p86, List.forall_mem_cons.mpr ⟨lw_p87, List.forall_mem_cons.mpr ⟨lw_p88, fun _ h => absurd h List.not_mem_nil⟩⟩⟩⟩⟩⟩⟩⟩⟩
def lw_privs : List (MethodName × Nat) := lw_privs_1 ++ (lw_privs_2 ++ (lw_privs_3 ++ (lw_privs_4 ++ (lw_privs_5 ++ (lw_privs_6)))))
def lw_tbl : List Cond := k2_sels lw_privs ++ tables_1
theorem lw_privs_ok : ∀ q ∈ lw_privs, lw_okq q := by
  show ∀ q ∈ lw_privs_1 ++ (lw_privs_2 ++ (lw_privs_3 ++ (lw_privs_4 ++ (lw_privs_5 ++ (lw_privs_6))))), lw_okq q
  exact List.forall_mem_append.mpr ⟨lw_r1, List.forall_mem_append.mpr ⟨lw_r2, List.forall_mem_append.mpr ⟨lw_r3, List.forall_mem_append.mpr ⟨lw_r4, List.forall_mem_append.mpr ⟨lw_r5, lw_r6⟩⟩⟩⟩⟩
-- ===== ONE list of words for every method: the tables' words that hold all through a run =====
def lw_all : List Cond := lw_tbl.filter goodWord
/-- a word of the tables by its place: claim/WORDS.tsv -/
theorem lw_w {w : Cond} (i : Nat) (h : lw_tbl[i]? = some w) (g : goodWord w = true) : w ∈ lw_all := List.mem_filter.mpr ⟨List.mem_of_getElem? h, g⟩
theorem lw_all_tbl {w : Cond} (h : w ∈ lw_all) : w ∈ lw_tbl := (List.mem_filter.mp h).1
theorem lw_self : GoodIn lw_all lw_all := fun w h => ⟨h, good_of_word (List.mem_filter.mp h).2⟩
/-- a class's field words, by their places -/
theorem lw_in (ws : List Cond) (ps : List Nat) (hp : ws = ps.filterMap (fun i => lw_tbl[i]?)) (hg : ws.all goodWord = true) : ∀ w ∈ ws, w ∈ lw_all := by
  intro w h
  have h1 := List.all_eq_true.mp hg w h
  rw [hp] at h
  obtain ⟨i, -, hi⟩ := List.mem_filterMap.mp h
  exact lw_w i hi h1
/-- the words of a contract for the method y with code b, L locals, answer r -/
abbrev ws_ (y : MethodName) (b : ByteArray) (L : Nat) (r : Option FieldType) : List Cond := Cond.code y b L r :: lw_all
theorem lw_meth {y : MethodName} {b : ByteArray} {L : Nat} {r : Option FieldType} (h : Cond.code y b L r ∈ lw_all) : GoodIn lw_all (ws_ y b L r) := by
  intro w hw
  rcases List.mem_cons.mp hw with e | e
  · rw [e]
    exact lw_self _ h
  · exact lw_self _ e
theorem lw_app {a c : List Cond} (ha : ∀ w ∈ a, w ∈ lw_all) (hc : GoodIn lw_all c) : GoodIn lw_all (a ++ c) := by
  intro w hw
  rcases List.mem_append.mp hw with e | e
  · exact lw_self w (ha w e)
  · exact hc w e
/-- what a call through an object asks: cwV n hts (lw_V ..) -/
theorem lw_V {own : String} {idx : Nat} {C : String} {y : MethodName} {b : ByteArray} {L : Nat} {r : Option FieldType} (h1 : Cond.methodLink own idx y ∈ lw_all) (h2 : Cond.instanceMethod y ∈ lw_all) (h3 : Cond.selects C y y ∈ lw_all) (h4 : Cond.initialized C ∈ lw_all) (h5 : Cond.code y b L r ∈ lw_all) : GoodIn lw_all (wsV own idx C y (ws_ y b L r)) := by
  refine lw_app ?_ (lw_meth h5)
  intro w hw
  simp only [List.mem_cons, List.not_mem_nil, or_false] at hw
  rcases hw with e | e | e | e
  · rw [e]; exact h1
  · rw [e]; exact h2
  · rw [e]; exact h3
  · rw [e]; exact h4
/-- what a static call asks: va_cwS n hts (lw_S ..) -/
theorem lw_S {own : String} {idx : Nat} {y : MethodName} {b : ByteArray} {L : Nat} {r : Option FieldType} (h1 : Cond.methodLink own idx y ∈ lw_all) (h2 : Cond.static y ∈ lw_all) (h3 : Cond.initialized y.cls ∈ lw_all) (h4 : Cond.code y b L r ∈ lw_all) : GoodIn lw_all (va_wsS own idx y (ws_ y b L r)) := by
  refine lw_app ?_ (lw_meth h4)
  intro w hw
  simp only [List.mem_cons, List.not_mem_nil, or_false] at hw
  rcases hw with e | e | e
  · rw [e]; exact h1
  · rw [e]; exact h2
  · rw [e]; exact h3
/-- the words of a contract for a method WITH HANDLERS (hh: its table) -/
abbrev wsW_ (y : MethodName) (b : ByteArray) (L : Nat) (r : Option FieldType) (hh : List (Nat × Nat × Nat × Nat)) : List Cond := Cond.codeWith y b L r hh :: lw_all
theorem lw_methW {y : MethodName} {b : ByteArray} {L : Nat} {r : Option FieldType} {hh : List (Nat × Nat × Nat × Nat)} (h : Cond.codeWith y b L r hh ∈ lw_all) : GoodIn lw_all (wsW_ y b L r hh) := by
  intro w hw
  rcases List.mem_cons.mp hw with e | e
  · rw [e]
    exact lw_self _ h
  · exact lw_self _ e
/-- any list of words by their places (lw_in), good -/
theorem lw_good {ws : List Cond} (h : ∀ w ∈ ws, w ∈ lw_all) : GoodIn lw_all ws := fun w hw => lw_self w (h w hw)
/-- what a call of a method with handlers asks: vx_cwVW n hts (lw_VW ..), vx_cwSW n hts (lw_SW ..) -/
theorem lw_VW {own : String} {idx : Nat} {C : String} {y : MethodName} {b : ByteArray} {L : Nat} {r : Option FieldType} {hh : List (Nat × Nat × Nat × Nat)} (h1 : Cond.methodLink own idx y ∈ lw_all) (h2 : Cond.instanceMethod y ∈ lw_all) (h3 : Cond.selects C y y ∈ lw_all) (h4 : Cond.initialized C ∈ lw_all) (h5 : Cond.codeWith y b L r hh ∈ lw_all) : GoodIn lw_all (wsV own idx C y (wsW_ y b L r hh)) := by
  refine lw_app ?_ (lw_methW h5)
  intro w hw
  simp only [List.mem_cons, List.not_mem_nil, or_false] at hw
  rcases hw with e | e | e | e
  · rw [e]; exact h1
  · rw [e]; exact h2
  · rw [e]; exact h3
  · rw [e]; exact h4
theorem lw_SW {own : String} {idx : Nat} {y : MethodName} {b : ByteArray} {L : Nat} {r : Option FieldType} {hh : List (Nat × Nat × Nat × Nat)} (h1 : Cond.methodLink own idx y ∈ lw_all) (h2 : Cond.static y ∈ lw_all) (h3 : Cond.initialized y.cls ∈ lw_all) (h4 : Cond.codeWith y b L r hh ∈ lw_all) : GoodIn lw_all (va_wsS own idx y (wsW_ y b L r hh)) := by
  refine lw_app ?_ (lw_methW h4)
  intro w hw
  simp only [List.mem_cons, List.not_mem_nil, or_false] at hw
  rcases hw with e | e | e
  · rw [e]; exact h1
  · rw [e]; exact h2
  · rw [e]; exact h3
/-- a word by its place in its run of the tables -/
theorem lw_at {r : List Cond} (hr : ∀ w ∈ r, w ∈ lw_tbl) {w : Cond} (i : Nat) (h : r[i]? = some w) : w ∈ lw_tbl := hr w (List.mem_of_getElem? h)
theorem lw_g {w : Cond} (h : w ∈ lw_tbl) (g : goodWord w = true) : w ∈ lw_all := List.mem_filter.mpr ⟨h, g⟩
theorem lw_ms : ∀ w ∈ k2_sels lw_privs, w ∈ lw_tbl := fun w h => show w ∈ k2_sels lw_privs ++ tables_1 from List.mem_append_left _ h
theorem lw_m1 : ∀ w ∈ tables_1_1, w ∈ lw_tbl := fun w h => show w ∈ k2_sels lw_privs ++ tables_1 from List.mem_append_right (k2_sels lw_privs) (show w ∈ tables_1 from List.mem_append_left _ h)
theorem lw_m2 : ∀ w ∈ tables_1_2, w ∈ lw_tbl := fun w h => show w ∈ k2_sels lw_privs ++ tables_1 from List.mem_append_right (k2_sels lw_privs) (show w ∈ tables_1 from List.mem_append_right _ (List.mem_append_left _ h))
theorem lw_m3 : ∀ w ∈ tables_1_3, w ∈ lw_tbl := fun w h => show w ∈ k2_sels lw_privs ++ tables_1 from List.mem_append_right (k2_sels lw_privs) (show w ∈ tables_1 from List.mem_append_right _ (List.mem_append_right _ (List.mem_append_left _ h)))
theorem lw_m4 : ∀ w ∈ tables_1_4, w ∈ lw_tbl := fun w h => show w ∈ k2_sels lw_privs ++ tables_1 from List.mem_append_right (k2_sels lw_privs) (show w ∈ tables_1 from List.mem_append_right _ (List.mem_append_right _ (List.mem_append_right _ (List.mem_append_left _ h))))
theorem lw_m5 : ∀ w ∈ tables_1_5, w ∈ lw_tbl := fun w h => show w ∈ k2_sels lw_privs ++ tables_1 from List.mem_append_right (k2_sels lw_privs) (show w ∈ tables_1 from List.mem_append_right _ (List.mem_append_right _ (List.mem_append_right _ (List.mem_append_right _ (List.mem_append_left _ h)))))
theorem lw_m6 : ∀ w ∈ tables_1_6, w ∈ lw_tbl := fun w h => show w ∈ k2_sels lw_privs ++ tables_1 from List.mem_append_right (k2_sels lw_privs) (show w ∈ tables_1 from List.mem_append_right _ (List.mem_append_right _ (List.mem_append_right _ (List.mem_append_right _ (List.mem_append_right _ (List.mem_append_left _ h))))))
theorem lw_m7 : ∀ w ∈ tables_1_7, w ∈ lw_tbl := fun w h => show w ∈ k2_sels lw_privs ++ tables_1 from List.mem_append_right (k2_sels lw_privs) (show w ∈ tables_1 from List.mem_append_right _ (List.mem_append_right _ (List.mem_append_right _ (List.mem_append_right _ (List.mem_append_right _ (List.mem_append_right _ h))))))
theorem qs0 : (Cond.selects "SoldWithIt" ⟨"SoldWithIt", "faultOf", "(I)I"⟩ ⟨"SoldWithIt", "faultOf", "(I)I"⟩) ∈ lw_all := lw_g (lw_at lw_ms 0 rfl) rfl
theorem qs1 : (Cond.selects "java/lang/Throwable" ⟨"java/lang/Throwable", "fillInStackTrace", "(I)Ljava/lang/Throwable;"⟩ ⟨"java/lang/Throwable", "fillInStackTrace", "(I)Ljava/lang/Throwable;"⟩) ∈ lw_all := lw_g (lw_at lw_ms 1 rfl) rfl
theorem qs2 : (Cond.selects "java/util/ArrayList" ⟨"java/util/ArrayList", "add", "(Ljava/lang/Object;[Ljava/lang/Object;I)V"⟩ ⟨"java/util/ArrayList", "add", "(Ljava/lang/Object;[Ljava/lang/Object;I)V"⟩) ∈ lw_all := lw_g (lw_at lw_ms 2 rfl) rfl
theorem qs3 : (Cond.selects "java/util/ArrayList" ⟨"java/util/ArrayList", "grow", "()[Ljava/lang/Object;"⟩ ⟨"java/util/ArrayList", "grow", "()[Ljava/lang/Object;"⟩) ∈ lw_all := lw_g (lw_at lw_ms 3 rfl) rfl
theorem qs4 : (Cond.selects "java/util/ArrayList" ⟨"java/util/ArrayList", "grow", "(I)[Ljava/lang/Object;"⟩ ⟨"java/util/ArrayList", "grow", "(I)[Ljava/lang/Object;"⟩) ∈ lw_all := lw_g (lw_at lw_ms 4 rfl) rfl
theorem qs5 : (Cond.selects "SoldWithIt" ⟨"SoldWithIt", "isHouse", "(I)Z"⟩ ⟨"SoldWithIt", "isHouse", "(I)Z"⟩) ∈ lw_all := lw_g (lw_at lw_ms 5 rfl) rfl
theorem qs6 : (Cond.selects "SoldWithIt" ⟨"SoldWithIt", "houses", "()I"⟩ ⟨"SoldWithIt", "houses", "()I"⟩) ∈ lw_all := lw_g (lw_at lw_ms 6 rfl) rfl
theorem qs7 : (Cond.selects "SoldWithIt" ⟨"SoldWithIt", "houseBy", "(II)I"⟩ ⟨"SoldWithIt", "houseBy", "(II)I"⟩) ∈ lw_all := lw_g (lw_at lw_ms 7 rfl) rfl
theorem qs8 : (Cond.selects "SoldWithIt" ⟨"SoldWithIt", "house", "(I)LSoldWithIt$House;"⟩ ⟨"SoldWithIt", "house", "(I)LSoldWithIt$House;"⟩) ∈ lw_all := lw_g (lw_at lw_ms 8 rfl) rfl
theorem qs9 : (Cond.selects "SoldWithIt" ⟨"SoldWithIt", "within", "(I)I"⟩ ⟨"SoldWithIt", "within", "(I)I"⟩) ∈ lw_all := lw_g (lw_at lw_ms 9 rfl) rfl
theorem qs10 : (Cond.selects "SoldWithIt" ⟨"SoldWithIt", "people", "()I"⟩ ⟨"SoldWithIt", "people", "()I"⟩) ∈ lw_all := lw_g (lw_at lw_ms 10 rfl) rfl
theorem qs11 : (Cond.selects "SoldWithIt" ⟨"SoldWithIt", "placeOf", "(I)I"⟩ ⟨"SoldWithIt", "placeOf", "(I)I"⟩) ∈ lw_all := lw_g (lw_at lw_ms 11 rfl) rfl
theorem qs12 : (Cond.selects "SoldWithIt" ⟨"SoldWithIt", "person", "(I)LSoldWithIt$Person;"⟩ ⟨"SoldWithIt", "person", "(I)LSoldWithIt$Person;"⟩) ∈ lw_all := lw_g (lw_at lw_ms 12 rfl) rfl
theorem qs13 : (Cond.selects "SoldWithIt" ⟨"SoldWithIt", "isPerson", "(I)Z"⟩ ⟨"SoldWithIt", "isPerson", "(I)Z"⟩) ∈ lw_all := lw_g (lw_at lw_ms 13 rfl) rfl
theorem qs14 : (Cond.selects "SoldWithIt" ⟨"SoldWithIt", "personBy", "(II)I"⟩ ⟨"SoldWithIt", "personBy", "(II)I"⟩) ∈ lw_all := lw_g (lw_at lw_ms 14 rfl) rfl
theorem qs15 : (Cond.selects "SoldWithIt" ⟨"SoldWithIt", "ownedBy", "(I)I"⟩ ⟨"SoldWithIt", "ownedBy", "(I)I"⟩) ∈ lw_all := lw_g (lw_at lw_ms 15 rfl) rfl
theorem qs16 : (Cond.selects "SoldWithIt" ⟨"SoldWithIt", "met", "(I)I"⟩ ⟨"SoldWithIt", "met", "(I)I"⟩) ∈ lw_all := lw_g (lw_at lw_ms 16 rfl) rfl
theorem qs17 : (Cond.selects "SoldWithIt" ⟨"SoldWithIt", "isSo", "(I)Z"⟩ ⟨"SoldWithIt", "isSo", "(I)Z"⟩) ∈ lw_all := lw_g (lw_at lw_ms 17 rfl) rfl
theorem qs18 : (Cond.selects "SoldWithIt" ⟨"SoldWithIt", "find", "()V"⟩ ⟨"SoldWithIt", "find", "()V"⟩) ∈ lw_all := lw_g (lw_at lw_ms 18 rfl) rfl
theorem qs19 : (Cond.selects "SoldWithIt" ⟨"SoldWithIt", "keeps", "(I)V"⟩ ⟨"SoldWithIt", "keeps", "(I)V"⟩) ∈ lw_all := lw_g (lw_at lw_ms 19 rfl) rfl
theorem qs20 : (Cond.selects "SoldWithIt$Noon" ⟨"SoldWithIt$Noon", "goes", "(II)V"⟩ ⟨"SoldWithIt$Noon", "goes", "(II)V"⟩) ∈ lw_all := lw_g (lw_at lw_ms 20 rfl) rfl
theorem qs21 : (Cond.selects "SoldWithIt$Noon" ⟨"SoldWithIt$Noon", "takes", "(II)V"⟩ ⟨"SoldWithIt$Noon", "takes", "(II)V"⟩) ∈ lw_all := lw_g (lw_at lw_ms 21 rfl) rfl
theorem qs22 : (Cond.selects "SoldWithIt" ⟨"SoldWithIt", "lengthOf", "(I)I"⟩ ⟨"SoldWithIt", "lengthOf", "(I)I"⟩) ∈ lw_all := lw_g (lw_at lw_ms 22 rfl) rfl
theorem qs23 : (Cond.selects "SoldWithIt" ⟨"SoldWithIt", "tells", "([[IIII)I"⟩ ⟨"SoldWithIt", "tells", "([[IIII)I"⟩) ∈ lw_all := lw_g (lw_at lw_ms 23 rfl) rfl
theorem qs24 : (Cond.selects "SoldWithIt" ⟨"SoldWithIt", "gainOf", "(I)I"⟩ ⟨"SoldWithIt", "gainOf", "(I)I"⟩) ∈ lw_all := lw_g (lw_at lw_ms 24 rfl) rfl
theorem qs25 : (Cond.selects "SoldWithIt" ⟨"SoldWithIt", "bestOf", "(II)I"⟩ ⟨"SoldWithIt", "bestOf", "(II)I"⟩) ∈ lw_all := lw_g (lw_at lw_ms 25 rfl) rfl
theorem qs26 : (Cond.selects "SoldWithIt" ⟨"SoldWithIt", "rows", "()I"⟩ ⟨"SoldWithIt", "rows", "()I"⟩) ∈ lw_all := lw_g (lw_at lw_ms 26 rfl) rfl
theorem qs27 : (Cond.selects "SoldWithIt" ⟨"SoldWithIt", "places", "()I"⟩ ⟨"SoldWithIt", "places", "()I"⟩) ∈ lw_all := lw_g (lw_at lw_ms 27 rfl) rfl
theorem qs28 : (Cond.selects "SoldWithIt" ⟨"SoldWithIt", "triedAt", "(I)LSoldWithIt$Noon;"⟩ ⟨"SoldWithIt", "triedAt", "(I)LSoldWithIt$Noon;"⟩) ∈ lw_all := lw_g (lw_at lw_ms 28 rfl) rfl
theorem qs29 : (Cond.selects "SoldWithIt" ⟨"SoldWithIt", "placeIn", "(II)I"⟩ ⟨"SoldWithIt", "placeIn", "(II)I"⟩) ∈ lw_all := lw_g (lw_at lw_ms 29 rfl) rfl
theorem qs30 : (Cond.selects "SoldWithIt" ⟨"SoldWithIt", "weight", "(I)I"⟩ ⟨"SoldWithIt", "weight", "(I)I"⟩) ∈ lw_all := lw_g (lw_at lw_ms 30 rfl) rfl
theorem qs31 : (Cond.selects "SoldWithIt" ⟨"SoldWithIt", "restOf", "(I)I"⟩ ⟨"SoldWithIt", "restOf", "(I)I"⟩) ∈ lw_all := lw_g (lw_at lw_ms 31 rfl) rfl
theorem qs32 : (Cond.selects "SoldWithIt" ⟨"SoldWithIt", "findKept", "()V"⟩ ⟨"SoldWithIt", "findKept", "()V"⟩) ∈ lw_all := lw_g (lw_at lw_ms 32 rfl) rfl
theorem qs33 : (Cond.selects "SoldWithIt" ⟨"SoldWithIt", "rests", "(I)Z"⟩ ⟨"SoldWithIt", "rests", "(I)Z"⟩) ∈ lw_all := lw_g (lw_at lw_ms 33 rfl) rfl
theorem qs34 : (Cond.selects "SoldWithIt" ⟨"SoldWithIt", "liking", "(II)I"⟩ ⟨"SoldWithIt", "liking", "(II)I"⟩) ∈ lw_all := lw_g (lw_at lw_ms 34 rfl) rfl
theorem qs35 : (Cond.selects "SoldWithIt" ⟨"SoldWithIt", "outOf", "(I)I"⟩ ⟨"SoldWithIt", "outOf", "(I)I"⟩) ∈ lw_all := lw_g (lw_at lw_ms 35 rfl) rfl
theorem qs36 : (Cond.selects "SoldWithIt" ⟨"SoldWithIt", "isTold", "(I)Z"⟩ ⟨"SoldWithIt", "isTold", "(I)Z"⟩) ∈ lw_all := lw_g (lw_at lw_ms 36 rfl) rfl
theorem qs37 : (Cond.selects "SoldWithIt" ⟨"SoldWithIt", "valueOf", "(II)I"⟩ ⟨"SoldWithIt", "valueOf", "(II)I"⟩) ∈ lw_all := lw_g (lw_at lw_ms 37 rfl) rfl
theorem qs38 : (Cond.selects "SoldWithIt" ⟨"SoldWithIt", "wouldChange", "(II)Z"⟩ ⟨"SoldWithIt", "wouldChange", "(II)Z"⟩) ∈ lw_all := lw_g (lw_at lw_ms 38 rfl) rfl
theorem qs39 : (Cond.selects "SoldWithIt" ⟨"SoldWithIt", "changesNow", "()I"⟩ ⟨"SoldWithIt", "changesNow", "()I"⟩) ∈ lw_all := lw_g (lw_at lw_ms 39 rfl) rfl
theorem qs40 : (Cond.selects "SoldWithIt$Sales" ⟨"SoldWithIt$Sales", "told", "()I"⟩ ⟨"SoldWithIt$Sales", "told", "()I"⟩) ∈ lw_all := lw_g (lw_at lw_ms 40 rfl) rfl
theorem qs41 : (Cond.selects "SoldWithIt$Sales" ⟨"SoldWithIt$Sales", "comes", "(II)V"⟩ ⟨"SoldWithIt$Sales", "comes", "(II)V"⟩) ∈ lw_all := lw_g (lw_at lw_ms 41 rfl) rfl
theorem qs42 : (Cond.selects "SoldWithIt$Sales" ⟨"SoldWithIt$Sales", "goesOn", "(I)V"⟩ ⟨"SoldWithIt$Sales", "goesOn", "(I)V"⟩) ∈ lw_all := lw_g (lw_at lw_ms 42 rfl) rfl
theorem qs43 : (Cond.selects "SoldWithIt" ⟨"SoldWithIt", "comers", "(II)I"⟩ ⟨"SoldWithIt", "comers", "(II)I"⟩) ∈ lw_all := lw_g (lw_at lw_ms 43 rfl) rfl
theorem qs44 : (Cond.selects "SoldWithIt" ⟨"SoldWithIt", "inviteOf", "(II)I"⟩ ⟨"SoldWithIt", "inviteOf", "(II)I"⟩) ∈ lw_all := lw_g (lw_at lw_ms 44 rfl) rfl
theorem qs45 : (Cond.selects "SoldWithIt" ⟨"SoldWithIt", "wereOf", "(I)I"⟩ ⟨"SoldWithIt", "wereOf", "(I)I"⟩) ∈ lw_all := lw_g (lw_at lw_ms 45 rfl) rfl
theorem qs46 : (Cond.selects "SoldWithIt" ⟨"SoldWithIt", "findBeen", "()I"⟩ ⟨"SoldWithIt", "findBeen", "()I"⟩) ∈ lw_all := lw_g (lw_at lw_ms 46 rfl) rfl
theorem qs47 : (Cond.selects "SoldWithIt" ⟨"SoldWithIt", "fits", "(LSoldWithIt$Noon;)Z"⟩ ⟨"SoldWithIt", "fits", "(LSoldWithIt$Noon;)Z"⟩) ∈ lw_all := lw_g (lw_at lw_ms 47 rfl) rfl
theorem qs48 : (Cond.selects "SoldWithIt" ⟨"SoldWithIt", "bedNow", "()I"⟩ ⟨"SoldWithIt", "bedNow", "()I"⟩) ∈ lw_all := lw_g (lw_at lw_ms 48 rfl) rfl
theorem qs49 : (Cond.selects "SoldWithIt" ⟨"SoldWithIt", "lowest", "(I)I"⟩ ⟨"SoldWithIt", "lowest", "(I)I"⟩) ∈ lw_all := lw_g (lw_at lw_ms 49 rfl) rfl
theorem qs50 : (Cond.selects "SoldWithItModel" ⟨"SoldWithItModel", "faultOf", "(I)I"⟩ ⟨"SoldWithItModel", "faultOf", "(I)I"⟩) ∈ lw_all := lw_g (lw_at lw_ms 50 rfl) rfl
theorem qs51 : (Cond.selects "SoldWithItModel" ⟨"SoldWithItModel", "readsHouses", "()I"⟩ ⟨"SoldWithItModel", "readsHouses", "()I"⟩) ∈ lw_all := lw_g (lw_at lw_ms 51 rfl) rfl
theorem qs52 : (Cond.selects "SoldWithItModel" ⟨"SoldWithItModel", "byteAt", "(II)I"⟩ ⟨"SoldWithItModel", "byteAt", "(II)I"⟩) ∈ lw_all := lw_g (lw_at lw_ms 52 rfl) rfl
theorem qs53 : (Cond.selects "SoldWithItModel" ⟨"SoldWithItModel", "readsPeople", "()I"⟩ ⟨"SoldWithItModel", "readsPeople", "()I"⟩) ∈ lw_all := lw_g (lw_at lw_ms 53 rfl) rfl
theorem qs54 : (Cond.selects "SoldWithItModel" ⟨"SoldWithItModel", "isHouse", "(I)Z"⟩ ⟨"SoldWithItModel", "isHouse", "(I)Z"⟩) ∈ lw_all := lw_g (lw_at lw_ms 54 rfl) rfl
theorem qs55 : (Cond.selects "SoldWithItModel" ⟨"SoldWithItModel", "reads", "()V"⟩ ⟨"SoldWithItModel", "reads", "()V"⟩) ∈ lw_all := lw_g (lw_at lw_ms 55 rfl) rfl
theorem qs56 : (Cond.selects "SoldWithItModel" ⟨"SoldWithItModel", "houseOf", "(II)I"⟩ ⟨"SoldWithItModel", "houseOf", "(II)I"⟩) ∈ lw_all := lw_g (lw_at lw_ms 56 rfl) rfl
theorem qs57 : (Cond.selects "SoldWithItModel" ⟨"SoldWithItModel", "isPerson", "(I)Z"⟩ ⟨"SoldWithItModel", "isPerson", "(I)Z"⟩) ∈ lw_all := lw_g (lw_at lw_ms 57 rfl) rfl
theorem qs58 : (Cond.selects "SoldWithItModel" ⟨"SoldWithItModel", "personOf", "(II)I"⟩ ⟨"SoldWithItModel", "personOf", "(II)I"⟩) ∈ lw_all := lw_g (lw_at lw_ms 58 rfl) rfl
theorem qs59 : (Cond.selects "SoldWithItModel" ⟨"SoldWithItModel", "saleMore", "(II)I"⟩ ⟨"SoldWithItModel", "saleMore", "(II)I"⟩) ∈ lw_all := lw_g (lw_at lw_ms 59 rfl) rfl
theorem qs60 : (Cond.selects "SoldWithItModel" ⟨"SoldWithItModel", "meets", "(I)I"⟩ ⟨"SoldWithItModel", "meets", "(I)I"⟩) ∈ lw_all := lw_g (lw_at lw_ms 60 rfl) rfl
theorem qs61 : (Cond.selects "SoldWithItModel" ⟨"SoldWithItModel", "lays", "(I)V"⟩ ⟨"SoldWithItModel", "lays", "(I)V"⟩) ∈ lw_all := lw_g (lw_at lw_ms 61 rfl) rfl
theorem qs62 : (Cond.selects "SoldWithItModel" ⟨"SoldWithItModel", "runs", "(I)V"⟩ ⟨"SoldWithItModel", "runs", "(I)V"⟩) ∈ lw_all := lw_g (lw_at lw_ms 62 rfl) rfl
theorem qs63 : (Cond.selects "SoldWithItModel" ⟨"SoldWithItModel", "begins", "()V"⟩ ⟨"SoldWithItModel", "begins", "()V"⟩) ∈ lw_all := lw_g (lw_at lw_ms 63 rfl) rfl
theorem qs64 : (Cond.selects "SoldWithItModel" ⟨"SoldWithItModel", "sells", "(II)I"⟩ ⟨"SoldWithItModel", "sells", "(II)I"⟩) ∈ lw_all := lw_g (lw_at lw_ms 64 rfl) rfl
theorem qs65 : (Cond.selects "SoldWithItModel" ⟨"SoldWithItModel", "keeperOf", "(II)I"⟩ ⟨"SoldWithItModel", "keeperOf", "(II)I"⟩) ∈ lw_all := lw_g (lw_at lw_ms 65 rfl) rfl
theorem qs66 : (Cond.selects "SoldWithItModel" ⟨"SoldWithItModel", "soldOf", "(II)I"⟩ ⟨"SoldWithItModel", "soldOf", "(II)I"⟩) ∈ lw_all := lw_g (lw_at lw_ms 66 rfl) rfl
theorem qs67 : (Cond.selects "SoldWithItModel" ⟨"SoldWithItModel", "lengthOf", "(I)I"⟩ ⟨"SoldWithItModel", "lengthOf", "(I)I"⟩) ∈ lw_all := lw_g (lw_at lw_ms 67 rfl) rfl
theorem qs68 : (Cond.selects "SoldWithItModel" ⟨"SoldWithItModel", "gainOf", "(I)I"⟩ ⟨"SoldWithItModel", "gainOf", "(I)I"⟩) ∈ lw_all := lw_g (lw_at lw_ms 68 rfl) rfl
theorem qs69 : (Cond.selects "SoldWithItModel" ⟨"SoldWithItModel", "gainBy", "(I)I"⟩ ⟨"SoldWithItModel", "gainBy", "(I)I"⟩) ∈ lw_all := lw_g (lw_at lw_ms 69 rfl) rfl
theorem qs70 : (Cond.selects "SoldWithItModel" ⟨"SoldWithItModel", "bestOf", "(II)I"⟩ ⟨"SoldWithItModel", "bestOf", "(II)I"⟩) ∈ lw_all := lw_g (lw_at lw_ms 70 rfl) rfl
theorem qs71 : (Cond.selects "SoldWithItModel" ⟨"SoldWithItModel", "rows", "()I"⟩ ⟨"SoldWithItModel", "rows", "()I"⟩) ∈ lw_all := lw_g (lw_at lw_ms 71 rfl) rfl
theorem qs72 : (Cond.selects "SoldWithItModel" ⟨"SoldWithItModel", "places", "(I)V"⟩ ⟨"SoldWithItModel", "places", "(I)V"⟩) ∈ lw_all := lw_g (lw_at lw_ms 72 rfl) rfl
theorem qs73 : (Cond.selects "SoldWithItModel" ⟨"SoldWithItModel", "restNow", "(I)I"⟩ ⟨"SoldWithItModel", "restNow", "(I)I"⟩) ∈ lw_all := lw_g (lw_at lw_ms 73 rfl) rfl
theorem qs74 : (Cond.selects "SoldWithItModel" ⟨"SoldWithItModel", "restOf", "(I)I"⟩ ⟨"SoldWithItModel", "restOf", "(I)I"⟩) ∈ lw_all := lw_g (lw_at lw_ms 74 rfl) rfl
theorem qs75 : (Cond.selects "SoldWithItModel" ⟨"SoldWithItModel", "outOf", "(I)I"⟩ ⟨"SoldWithItModel", "outOf", "(I)I"⟩) ∈ lw_all := lw_g (lw_at lw_ms 75 rfl) rfl
theorem qs76 : (Cond.selects "SoldWithItModel" ⟨"SoldWithItModel", "isTold", "(I)Z"⟩ ⟨"SoldWithItModel", "isTold", "(I)Z"⟩) ∈ lw_all := lw_g (lw_at lw_ms 76 rfl) rfl
theorem qs77 : (Cond.selects "SoldWithItModel" ⟨"SoldWithItModel", "valueOf", "(II)I"⟩ ⟨"SoldWithItModel", "valueOf", "(II)I"⟩) ∈ lw_all := lw_g (lw_at lw_ms 77 rfl) rfl
theorem qs78 : (Cond.selects "SoldWithItModel" ⟨"SoldWithItModel", "isChange", "(II)Z"⟩ ⟨"SoldWithItModel", "isChange", "(II)Z"⟩) ∈ lw_all := lw_g (lw_at lw_ms 78 rfl) rfl
theorem qs79 : (Cond.selects "SoldWithItModel" ⟨"SoldWithItModel", "changesNow", "()I"⟩ ⟨"SoldWithItModel", "changesNow", "()I"⟩) ∈ lw_all := lw_g (lw_at lw_ms 79 rfl) rfl
theorem qs80 : (Cond.selects "SoldWithItModel" ⟨"SoldWithItModel", "shouldOf", "(I)I"⟩ ⟨"SoldWithItModel", "shouldOf", "(I)I"⟩) ∈ lw_all := lw_g (lw_at lw_ms 80 rfl) rfl
theorem qs81 : (Cond.selects "SoldWithItModel" ⟨"SoldWithItModel", "stateNow", "()I"⟩ ⟨"SoldWithItModel", "stateNow", "()I"⟩) ∈ lw_all := lw_g (lw_at lw_ms 81 rfl) rfl
theorem qs82 : (Cond.selects "SoldWithItModel" ⟨"SoldWithItModel", "ownsBy", "(I)V"⟩ ⟨"SoldWithItModel", "ownsBy", "(I)V"⟩) ∈ lw_all := lw_g (lw_at lw_ms 82 rfl) rfl
theorem qs83 : (Cond.selects "SoldWithItModel" ⟨"SoldWithItModel", "comeOf", "(II)I"⟩ ⟨"SoldWithItModel", "comeOf", "(II)I"⟩) ∈ lw_all := lw_g (lw_at lw_ms 83 rfl) rfl
theorem qs84 : (Cond.selects "SoldWithItModel" ⟨"SoldWithItModel", "inviteOf", "(II)I"⟩ ⟨"SoldWithItModel", "inviteOf", "(II)I"⟩) ∈ lw_all := lw_g (lw_at lw_ms 84 rfl) rfl
theorem qs85 : (Cond.selects "SoldWithItModel" ⟨"SoldWithItModel", "waysNow", "()I"⟩ ⟨"SoldWithItModel", "waysNow", "()I"⟩) ∈ lw_all := lw_g (lw_at lw_ms 85 rfl) rfl
theorem qs86 : (Cond.selects "SoldWithItModel" ⟨"SoldWithItModel", "lacks", "(III)I"⟩ ⟨"SoldWithItModel", "lacks", "(III)I"⟩) ∈ lw_all := lw_g (lw_at lw_ms 86 rfl) rfl
theorem qs87 : (Cond.selects "SoldWithItModel" ⟨"SoldWithItModel", "keep", "(III)V"⟩ ⟨"SoldWithItModel", "keep", "(III)V"⟩) ∈ lw_all := lw_g (lw_at lw_ms 87 rfl) rfl
theorem qs88 : (Cond.selects "SoldWithItModel" ⟨"SoldWithItModel", "sumOf", "(I)I"⟩ ⟨"SoldWithItModel", "sumOf", "(I)I"⟩) ∈ lw_all := lw_g (lw_at lw_ms 88 rfl) rfl
