-- ===== PART A: goes FIRST, ahead of the names: the tables' words, and 'selects' of the private methods out of them =====
/-- a private method of a class that the tables say can be made, by its rows of tables_1 -/
def lw_okq (q : MethodName × Nat) : Prop := (q.1.cls ≠ "java/lang/invoke/MethodHandle" ∧ q.1.cls ≠ "java/lang/invoke/VarHandle") ∧ Cond.instantiable q.1.cls q.2 ∈ tables_1 ∧ Cond.privateMethod q.1 ∈ tables_1 ∧ Cond.instanceMethod q.1 ∈ tables_1
set_option maxRecDepth 100000
theorem lw_t1 {w : Cond} (h : w ∈ tables_1_1) : w ∈ tables_1 := List.mem_append_left _ h
theorem lw_t2 {w : Cond} (h : w ∈ tables_1_2) : w ∈ tables_1 := List.mem_append_right _ (List.mem_append_left _ h)
theorem lw_t3 {w : Cond} (h : w ∈ tables_1_3) : w ∈ tables_1 := List.mem_append_right _ (List.mem_append_right _ (List.mem_append_left _ h))
theorem lw_t4 {w : Cond} (h : w ∈ tables_1_4) : w ∈ tables_1 := List.mem_append_right _ (List.mem_append_right _ (List.mem_append_right _ (List.mem_append_left _ h)))
theorem lw_t5 {w : Cond} (h : w ∈ tables_1_5) : w ∈ tables_1 := List.mem_append_right _ (List.mem_append_right _ (List.mem_append_right _ (List.mem_append_right _ (List.mem_append_left _ h))))
theorem lw_t6 {w : Cond} (h : w ∈ tables_1_6) : w ∈ tables_1 := List.mem_append_right _ (List.mem_append_right _ (List.mem_append_right _ (List.mem_append_right _ (List.mem_append_right _ h))))
theorem lw_p0 : lw_okq (⟨"DebtFerry", "noPerson", "(I)Z"⟩, 10) := ⟨⟨by decide +kernel, by decide +kernel⟩, lw_t1 (List.mem_of_getElem? (i := 35) rfl), lw_t1 (List.mem_of_getElem? (i := 111) rfl), lw_t1 (List.mem_of_getElem? (i := 112) rfl)⟩
theorem lw_p1 : lw_okq (⟨"DebtFerry", "allOwedBy", "(I)I"⟩, 10) := ⟨⟨by decide +kernel, by decide +kernel⟩, lw_t1 (List.mem_of_getElem? (i := 35) rfl), lw_t1 (List.mem_of_getElem? (i := 159) rfl), lw_t1 (List.mem_of_getElem? (i := 160) rfl)⟩
theorem lw_p2 : lw_okq (⟨"DebtFerry", "noteOf", "(II)I"⟩, 10) := ⟨⟨by decide +kernel, by decide +kernel⟩, lw_t1 (List.mem_of_getElem? (i := 35) rfl), lw_t1 (List.mem_of_getElem? (i := 163) rfl), lw_t1 (List.mem_of_getElem? (i := 164) rfl)⟩
theorem lw_p3 : lw_okq (⟨"DebtFerry", "isNoNote", "(II)Z"⟩, 10) := ⟨⟨by decide +kernel, by decide +kernel⟩, lw_t1 (List.mem_of_getElem? (i := 35) rfl), lw_t1 (List.mem_of_getElem? (i := 175) rfl), lw_t1 (List.mem_of_getElem? (i := 176) rfl)⟩
theorem lw_p4 : lw_okq (⟨"DebtFerry", "noRiver", "()Z"⟩, 10) := ⟨⟨by decide +kernel, by decide +kernel⟩, lw_t1 (List.mem_of_getElem? (i := 35) rfl), lw_t1 (List.mem_of_getElem? (i := 185) rfl), lw_t1 (List.mem_of_getElem? (i := 186) rfl)⟩
theorem lw_p5 : lw_okq (⟨"DebtFerry", "isLoad", "(I)Z"⟩, 10) := ⟨⟨by decide +kernel, by decide +kernel⟩, lw_t1 (List.mem_of_getElem? (i := 35) rfl), lw_t1 (List.mem_of_getElem? (i := 206) rfl), lw_t1 (List.mem_of_getElem? (i := 207) rfl)⟩
theorem lw_p6 : lw_okq (⟨"DebtFerry", "everyone", "()I"⟩, 10) := ⟨⟨by decide +kernel, by decide +kernel⟩, lw_t1 (List.mem_of_getElem? (i := 35) rfl), lw_t1 (List.mem_of_getElem? (i := 210) rfl), lw_t1 (List.mem_of_getElem? (i := 211) rfl)⟩
theorem lw_p7 : lw_okq (⟨"DebtFerry", "pulling", "(I)I"⟩, 10) := ⟨⟨by decide +kernel, by decide +kernel⟩, lw_t1 (List.mem_of_getElem? (i := 35) rfl), lw_t2 (List.mem_of_getElem? (i := 8) rfl), lw_t2 (List.mem_of_getElem? (i := 9) rfl)⟩
theorem lw_p8 : lw_okq (⟨"DebtFerry", "isFair", "(I)Z"⟩, 10) := ⟨⟨by decide +kernel, by decide +kernel⟩, lw_t1 (List.mem_of_getElem? (i := 35) rfl), lw_t2 (List.mem_of_getElem? (i := 17) rfl), lw_t2 (List.mem_of_getElem? (i := 18) rfl)⟩
theorem lw_p9 : lw_okq (⟨"DebtFerry", "reckon", "()V"⟩, 10) := ⟨⟨by decide +kernel, by decide +kernel⟩, lw_t1 (List.mem_of_getElem? (i := 35) rfl), lw_t2 (List.mem_of_getElem? (i := 37) rfl), lw_t2 (List.mem_of_getElem? (i := 38) rfl)⟩
theorem lw_p10 : lw_okq (⟨"DebtFerry", "fewestFor", "(I)I"⟩, 10) := ⟨⟨by decide +kernel, by decide +kernel⟩, lw_t1 (List.mem_of_getElem? (i := 35) rfl), lw_t2 (List.mem_of_getElem? (i := 41) rfl), lw_t2 (List.mem_of_getElem? (i := 42) rfl)⟩
theorem lw_p11 : lw_okq (⟨"DebtFerry", "firstLoad", "(I)I"⟩, 10) := ⟨⟨by decide +kernel, by decide +kernel⟩, lw_t1 (List.mem_of_getElem? (i := 35) rfl), lw_t2 (List.mem_of_getElem? (i := 45) rfl), lw_t2 (List.mem_of_getElem? (i := 46) rfl)⟩
theorem lw_p12 : lw_okq (⟨"DebtFerry", "penceTo", "(III)I"⟩, 10) := ⟨⟨by decide +kernel, by decide +kernel⟩, lw_t1 (List.mem_of_getElem? (i := 35) rfl), lw_t2 (List.mem_of_getElem? (i := 53) rfl), lw_t2 (List.mem_of_getElem? (i := 54) rfl)⟩
theorem lw_p13 : lw_okq (⟨"DebtFerry", "keep", "()V"⟩, 10) := ⟨⟨by decide +kernel, by decide +kernel⟩, lw_t1 (List.mem_of_getElem? (i := 35) rfl), lw_t2 (List.mem_of_getElem? (i := 61) rfl), lw_t2 (List.mem_of_getElem? (i := 62) rfl)⟩
theorem lw_p14 : lw_okq (⟨"DebtFerry", "putBack", "()V"⟩, 10) := ⟨⟨by decide +kernel, by decide +kernel⟩, lw_t1 (List.mem_of_getElem? (i := 35) rfl), lw_t2 (List.mem_of_getElem? (i := 68) rfl), lw_t2 (List.mem_of_getElem? (i := 69) rfl)⟩
theorem lw_p15 : lw_okq (⟨"java/util/ArrayList", "add", "(Ljava/lang/Object;[Ljava/lang/Object;I)V"⟩, 3) := ⟨⟨by decide +kernel, by decide +kernel⟩, lw_t1 (List.mem_of_getElem? (i := 43) rfl), lw_t2 (List.mem_of_getElem? (i := 100) rfl), lw_t2 (List.mem_of_getElem? (i := 101) rfl)⟩
def lw_privs_1 : List (MethodName × Nat) := [(⟨"DebtFerry", "noPerson", "(I)Z"⟩, 10), (⟨"DebtFerry", "allOwedBy", "(I)I"⟩, 10), (⟨"DebtFerry", "noteOf", "(II)I"⟩, 10), (⟨"DebtFerry", "isNoNote", "(II)Z"⟩, 10), (⟨"DebtFerry", "noRiver", "()Z"⟩, 10), (⟨"DebtFerry", "isLoad", "(I)Z"⟩, 10), (⟨"DebtFerry", "everyone", "()I"⟩, 10), (⟨"DebtFerry", "pulling", "(I)I"⟩, 10), (⟨"DebtFerry", "isFair", "(I)Z"⟩, 10), (⟨"DebtFerry", "reckon", "()V"⟩, 10), (⟨"DebtFerry", "fewestFor", "(I)I"⟩, 10), (⟨"DebtFerry", "firstLoad", "(I)I"⟩, 10), (⟨"DebtFerry", "penceTo", "(III)I"⟩, 10), (⟨"DebtFerry", "keep", "()V"⟩, 10), (⟨"DebtFerry", "putBack", "()V"⟩, 10), (⟨"java/util/ArrayList", "add", "(Ljava/lang/Object;[Ljava/lang/Object;I)V"⟩, 3)]
theorem lw_r1 : ∀ q ∈ lw_privs_1, lw_okq q := List.forall_mem_cons.mpr ⟨lw_p0, List.forall_mem_cons.mpr ⟨lw_p1, List.forall_mem_cons.mpr ⟨lw_p2, List.forall_mem_cons.mpr ⟨lw_p3, List.forall_mem_cons.mpr ⟨lw_p4, List.forall_mem_cons.mpr ⟨lw_p5, List.forall_mem_cons.mpr ⟨lw_p6, List.forall_mem_cons.mpr ⟨lw_p7, List.forall_mem_cons.mpr ⟨lw_p8, List.forall_mem_cons.mpr ⟨lw_p9, List.forall_mem_cons.mpr ⟨lw_p10, List.forall_mem_cons.mpr ⟨lw_p11, List.forall_mem_cons.mpr ⟨lw_p12, List.forall_mem_cons.mpr ⟨lw_p13, List.forall_mem_cons.mpr ⟨lw_p14, List.forall_mem_cons.mpr ⟨lw_p15, fun _ h => absurd h List.not_mem_nil⟩⟩⟩⟩⟩⟩⟩⟩⟩⟩⟩⟩⟩⟩⟩⟩
theorem lw_p16 : lw_okq (⟨"java/util/ArrayList", "grow", "()[Ljava/lang/Object;"⟩, 3) := ⟨⟨by decide +kernel, by decide +kernel⟩, lw_t1 (List.mem_of_getElem? (i := 43) rfl), lw_t2 (List.mem_of_getElem? (i := 104) rfl), lw_t2 (List.mem_of_getElem? (i := 105) rfl)⟩
theorem lw_p17 : lw_okq (⟨"java/util/ArrayList", "grow", "(I)[Ljava/lang/Object;"⟩, 3) := ⟨⟨by decide +kernel, by decide +kernel⟩, lw_t1 (List.mem_of_getElem? (i := 43) rfl), lw_t2 (List.mem_of_getElem? (i := 108) rfl), lw_t2 (List.mem_of_getElem? (i := 109) rfl)⟩
theorem lw_p18 : lw_okq (⟨"java/util/ArrayList", "fastRemove", "([Ljava/lang/Object;I)V"⟩, 3) := ⟨⟨by decide +kernel, by decide +kernel⟩, lw_t1 (List.mem_of_getElem? (i := 43) rfl), lw_t2 (List.mem_of_getElem? (i := 170) rfl), lw_t2 (List.mem_of_getElem? (i := 171) rfl)⟩
theorem lw_p19 : lw_okq (⟨"DebtFerry", "areSo", "()Z"⟩, 10) := ⟨⟨by decide +kernel, by decide +kernel⟩, lw_t1 (List.mem_of_getElem? (i := 35) rfl), lw_t2 (List.mem_of_getElem? (i := 179) rfl), lw_t2 (List.mem_of_getElem? (i := 180) rfl)⟩
theorem lw_p20 : lw_okq (⟨"DebtFerry", "madeOf", "(IIZ)LDebtFerry$Rider;"⟩, 10) := ⟨⟨by decide +kernel, by decide +kernel⟩, lw_t1 (List.mem_of_getElem? (i := 35) rfl), lw_t2 (List.mem_of_getElem? (i := 187) rfl), lw_t2 (List.mem_of_getElem? (i := 188) rfl)⟩
theorem lw_p21 : lw_okq (⟨"java/lang/NullPointerException", "getExtendedNPEMessage", "()Ljava/lang/String;"⟩, 8) := ⟨⟨by decide +kernel, by decide +kernel⟩, lw_t3 (List.mem_of_getElem? (i := 54) rfl), lw_t3 (List.mem_of_getElem? (i := 52) rfl), lw_t3 (List.mem_of_getElem? (i := 53) rfl)⟩
theorem lw_p22 : lw_okq (⟨"java/lang/Throwable", "fillInStackTrace", "(I)Ljava/lang/Throwable;"⟩, 6) := ⟨⟨by decide +kernel, by decide +kernel⟩, lw_t3 (List.mem_of_getElem? (i := 66) rfl), lw_t3 (List.mem_of_getElem? (i := 64) rfl), lw_t3 (List.mem_of_getElem? (i := 65) rfl)⟩
theorem lw_p23 : lw_okq (⟨"DebtFerry", "refused", "(I)I"⟩, 10) := ⟨⟨by decide +kernel, by decide +kernel⟩, lw_t1 (List.mem_of_getElem? (i := 35) rfl), lw_t3 (List.mem_of_getElem? (i := 113) rfl), lw_t3 (List.mem_of_getElem? (i := 114) rfl)⟩
theorem lw_p24 : lw_okq (⟨"DebtFerry", "fails", "(I)I"⟩, 10) := ⟨⟨by decide +kernel, by decide +kernel⟩, lw_t1 (List.mem_of_getElem? (i := 35) rfl), lw_t3 (List.mem_of_getElem? (i := 132) rfl), lw_t3 (List.mem_of_getElem? (i := 133) rfl)⟩
theorem lw_p25 : lw_okq (⟨"DebtFerry", "rowIn", "(I)Ljava/lang/Object;"⟩, 10) := ⟨⟨by decide +kernel, by decide +kernel⟩, lw_t1 (List.mem_of_getElem? (i := 35) rfl), lw_t3 (List.mem_of_getElem? (i := 212) rfl), lw_t3 (List.mem_of_getElem? (i := 213) rfl)⟩
theorem lw_p26 : lw_okq (⟨"DebtFerry", "failsLong", "(I)J"⟩, 10) := ⟨⟨by decide +kernel, by decide +kernel⟩, lw_t1 (List.mem_of_getElem? (i := 35) rfl), lw_t3 (List.mem_of_getElem? (i := 219) rfl), lw_t3 (List.mem_of_getElem? (i := 220) rfl)⟩
theorem lw_p27 : lw_okq (⟨"DebtFerry", "looked", "(LDebtFerry$Looking;Z)I"⟩, 10) := ⟨⟨by decide +kernel, by decide +kernel⟩, lw_t1 (List.mem_of_getElem? (i := 35) rfl), lw_t4 (List.mem_of_getElem? (i := 23) rfl), lw_t4 (List.mem_of_getElem? (i := 24) rfl)⟩
theorem lw_p28 : lw_okq (⟨"DebtFerry", "loadsBarred", "([I)I"⟩, 10) := ⟨⟨by decide +kernel, by decide +kernel⟩, lw_t1 (List.mem_of_getElem? (i := 35) rfl), lw_t4 (List.mem_of_getElem? (i := 92) rfl), lw_t4 (List.mem_of_getElem? (i := 93) rfl)⟩
theorem lw_p29 : lw_okq (⟨"DebtFerry", "loadsBy", "([II)I"⟩, 10) := ⟨⟨by decide +kernel, by decide +kernel⟩, lw_t1 (List.mem_of_getElem? (i := 35) rfl), lw_t4 (List.mem_of_getElem? (i := 96) rfl), lw_t4 (List.mem_of_getElem? (i := 97) rfl)⟩
theorem lw_p30 : lw_okq (⟨"DebtFerry", "newRiver", "([I)I"⟩, 10) := ⟨⟨by decide +kernel, by decide +kernel⟩, lw_t1 (List.mem_of_getElem? (i := 35) rfl), lw_t4 (List.mem_of_getElem? (i := 103) rfl), lw_t4 (List.mem_of_getElem? (i := 104) rfl)⟩
theorem lw_p31 : lw_okq (⟨"DebtFerryModel", "against", "(IIII)I"⟩, 29) := ⟨⟨by decide +kernel, by decide +kernel⟩, lw_t5 (List.mem_of_getElem? (i := 92) rfl), lw_t5 (List.mem_of_getElem? (i := 199) rfl), lw_t5 (List.mem_of_getElem? (i := 200) rfl)⟩
def lw_privs_2 : List (MethodName × Nat) := [(⟨"java/util/ArrayList", "grow", "()[Ljava/lang/Object;"⟩, 3), (⟨"java/util/ArrayList", "grow", "(I)[Ljava/lang/Object;"⟩, 3), (⟨"java/util/ArrayList", "fastRemove", "([Ljava/lang/Object;I)V"⟩, 3), (⟨"DebtFerry", "areSo", "()Z"⟩, 10), (⟨"DebtFerry", "madeOf", "(IIZ)LDebtFerry$Rider;"⟩, 10), (⟨"java/lang/NullPointerException", "getExtendedNPEMessage", "()Ljava/lang/String;"⟩, 8), (⟨"java/lang/Throwable", "fillInStackTrace", "(I)Ljava/lang/Throwable;"⟩, 6), (⟨"DebtFerry", "refused", "(I)I"⟩, 10), (⟨"DebtFerry", "fails", "(I)I"⟩, 10), (⟨"DebtFerry", "rowIn", "(I)Ljava/lang/Object;"⟩, 10), (⟨"DebtFerry", "failsLong", "(I)J"⟩, 10), (⟨"DebtFerry", "looked", "(LDebtFerry$Looking;Z)I"⟩, 10), (⟨"DebtFerry", "loadsBarred", "([I)I"⟩, 10), (⟨"DebtFerry", "loadsBy", "([II)I"⟩, 10), (⟨"DebtFerry", "newRiver", "([I)I"⟩, 10), (⟨"DebtFerryModel", "against", "(IIII)I"⟩, 29)]
theorem lw_r2 : ∀ q ∈ lw_privs_2, lw_okq q := List.forall_mem_cons.mpr ⟨lw_p16, List.forall_mem_cons.mpr ⟨lw_p17, List.forall_mem_cons.mpr ⟨lw_p18, List.forall_mem_cons.mpr ⟨lw_p19, List.forall_mem_cons.mpr ⟨lw_p20, List.forall_mem_cons.mpr ⟨lw_p21, List.forall_mem_cons.mpr ⟨lw_p22, List.forall_mem_cons.mpr ⟨lw_p23, List.forall_mem_cons.mpr ⟨lw_p24, List.forall_mem_cons.mpr ⟨lw_p25, List.forall_mem_cons.mpr ⟨lw_p26, List.forall_mem_cons.mpr ⟨lw_p27, List.forall_mem_cons.mpr ⟨lw_p28, List.forall_mem_cons.mpr ⟨lw_p29, List.forall_mem_cons.mpr ⟨lw_p30, List.forall_mem_cons.mpr ⟨lw_p31, fun _ h => absurd h List.not_mem_nil⟩⟩⟩⟩⟩⟩⟩⟩⟩⟩⟩⟩⟩⟩⟩⟩
theorem lw_p32 : lw_okq (⟨"DebtFerryModel", "fails", "(I)I"⟩, 29) := ⟨⟨by decide +kernel, by decide +kernel⟩, lw_t5 (List.mem_of_getElem? (i := 92) rfl), lw_t5 (List.mem_of_getElem? (i := 203) rfl), lw_t5 (List.mem_of_getElem? (i := 204) rfl)⟩
theorem lw_p33 : lw_okq (⟨"DebtFerryModel", "readRiver", "(I)Z"⟩, 29) := ⟨⟨by decide +kernel, by decide +kernel⟩, lw_t5 (List.mem_of_getElem? (i := 92) rfl), lw_t5 (List.mem_of_getElem? (i := 207) rfl), lw_t5 (List.mem_of_getElem? (i := 208) rfl)⟩
theorem lw_p34 : lw_okq (⟨"DebtFerryModel", "isSign", "(II)Z"⟩, 29) := ⟨⟨by decide +kernel, by decide +kernel⟩, lw_t5 (List.mem_of_getElem? (i := 92) rfl), lw_t5 (List.mem_of_getElem? (i := 211) rfl), lw_t5 (List.mem_of_getElem? (i := 212) rfl)⟩
theorem lw_p35 : lw_okq (⟨"DebtFerryModel", "digit", "(III)I"⟩, 29) := ⟨⟨by decide +kernel, by decide +kernel⟩, lw_t5 (List.mem_of_getElem? (i := 92) rfl), lw_t5 (List.mem_of_getElem? (i := 215) rfl), lw_t5 (List.mem_of_getElem? (i := 216) rfl)⟩
theorem lw_p36 : lw_okq (⟨"DebtFerryModel", "readPerson", "(II)Z"⟩, 29) := ⟨⟨by decide +kernel, by decide +kernel⟩, lw_t5 (List.mem_of_getElem? (i := 92) rfl), lw_t5 (List.mem_of_getElem? (i := 219) rfl), lw_t5 (List.mem_of_getElem? (i := 220) rfl)⟩
theorem lw_p37 : lw_okq (⟨"DebtFerryModel", "takeRiver", "()V"⟩, 29) := ⟨⟨by decide +kernel, by decide +kernel⟩, lw_t5 (List.mem_of_getElem? (i := 92) rfl), lw_t5 (List.mem_of_getElem? (i := 223) rfl), lw_t5 (List.mem_of_getElem? (i := 224) rfl)⟩
theorem lw_p38 : lw_okq (⟨"DebtFerryModel", "isPerson", "(I)Z"⟩, 29) := ⟨⟨by decide +kernel, by decide +kernel⟩, lw_t5 (List.mem_of_getElem? (i := 92) rfl), lw_t5 (List.mem_of_getElem? (i := 231) rfl), lw_t5 (List.mem_of_getElem? (i := 232) rfl)⟩
theorem lw_p39 : lw_okq (⟨"DebtFerryModel", "allOf", "(I)I"⟩, 29) := ⟨⟨by decide +kernel, by decide +kernel⟩, lw_t5 (List.mem_of_getElem? (i := 92) rfl), lw_t5 (List.mem_of_getElem? (i := 235) rfl), lw_t5 (List.mem_of_getElem? (i := 236) rfl)⟩
theorem lw_p40 : lw_okq (⟨"DebtFerryModel", "isNote", "(II)Z"⟩, 29) := ⟨⟨by decide +kernel, by decide +kernel⟩, lw_t5 (List.mem_of_getElem? (i := 92) rfl), lw_t6 (List.mem_of_getElem? (i := 7) rfl), lw_t6 (List.mem_of_getElem? (i := 8) rfl)⟩
theorem lw_p41 : lw_okq (⟨"DebtFerryModel", "isSet", "(I)Z"⟩, 29) := ⟨⟨by decide +kernel, by decide +kernel⟩, lw_t5 (List.mem_of_getElem? (i := 92) rfl), lw_t6 (List.mem_of_getElem? (i := 23) rfl), lw_t6 (List.mem_of_getElem? (i := 24) rfl)⟩
theorem lw_p42 : lw_okq (⟨"DebtFerryModel", "debtOf", "(II)I"⟩, 29) := ⟨⟨by decide +kernel, by decide +kernel⟩, lw_t5 (List.mem_of_getElem? (i := 92) rfl), lw_t6 (List.mem_of_getElem? (i := 30) rfl), lw_t6 (List.mem_of_getElem? (i := 31) rfl)⟩
theorem lw_p43 : lw_okq (⟨"DebtFerryModel", "pullersOf", "(I)I"⟩, 29) := ⟨⟨by decide +kernel, by decide +kernel⟩, lw_t5 (List.mem_of_getElem? (i := 92) rfl), lw_t6 (List.mem_of_getElem? (i := 38) rfl), lw_t6 (List.mem_of_getElem? (i := 39) rfl)⟩
theorem lw_p44 : lw_okq (⟨"DebtFerryModel", "isFair", "(I)Z"⟩, 29) := ⟨⟨by decide +kernel, by decide +kernel⟩, lw_t5 (List.mem_of_getElem? (i := 92) rfl), lw_t6 (List.mem_of_getElem? (i := 46) rfl), lw_t6 (List.mem_of_getElem? (i := 47) rfl)⟩
theorem lw_p45 : lw_okq (⟨"DebtFerryModel", "goLoads", "(II)I"⟩, 29) := ⟨⟨by decide +kernel, by decide +kernel⟩, lw_t5 (List.mem_of_getElem? (i := 92) rfl), lw_t6 (List.mem_of_getElem? (i := 57) rfl), lw_t6 (List.mem_of_getElem? (i := 58) rfl)⟩
theorem lw_p46 : lw_okq (⟨"DebtFerryModel", "tellLoads", "(I)I"⟩, 29) := ⟨⟨by decide +kernel, by decide +kernel⟩, lw_t5 (List.mem_of_getElem? (i := 92) rfl), lw_t6 (List.mem_of_getElem? (i := 61) rfl), lw_t6 (List.mem_of_getElem? (i := 62) rfl)⟩
theorem lw_p47 : lw_okq (⟨"DebtFerryModel", "findFewest", "()V"⟩, 29) := ⟨⟨by decide +kernel, by decide +kernel⟩, lw_t5 (List.mem_of_getElem? (i := 92) rfl), lw_t6 (List.mem_of_getElem? (i := 69) rfl), lw_t6 (List.mem_of_getElem? (i := 70) rfl)⟩
def lw_privs_3 : List (MethodName × Nat) := [(⟨"DebtFerryModel", "fails", "(I)I"⟩, 29), (⟨"DebtFerryModel", "readRiver", "(I)Z"⟩, 29), (⟨"DebtFerryModel", "isSign", "(II)Z"⟩, 29), (⟨"DebtFerryModel", "digit", "(III)I"⟩, 29), (⟨"DebtFerryModel", "readPerson", "(II)Z"⟩, 29), (⟨"DebtFerryModel", "takeRiver", "()V"⟩, 29), (⟨"DebtFerryModel", "isPerson", "(I)Z"⟩, 29), (⟨"DebtFerryModel", "allOf", "(I)I"⟩, 29), (⟨"DebtFerryModel", "isNote", "(II)Z"⟩, 29), (⟨"DebtFerryModel", "isSet", "(I)Z"⟩, 29), (⟨"DebtFerryModel", "debtOf", "(II)I"⟩, 29), (⟨"DebtFerryModel", "pullersOf", "(I)I"⟩, 29), (⟨"DebtFerryModel", "isFair", "(I)Z"⟩, 29), (⟨"DebtFerryModel", "goLoads", "(II)I"⟩, 29), (⟨"DebtFerryModel", "tellLoads", "(I)I"⟩, 29), (⟨"DebtFerryModel", "findFewest", "()V"⟩, 29)]
theorem lw_r3 : ∀ q ∈ lw_privs_3, lw_okq q := List.forall_mem_cons.mpr ⟨lw_p32, List.forall_mem_cons.mpr ⟨lw_p33, List.forall_mem_cons.mpr ⟨lw_p34, List.forall_mem_cons.mpr ⟨lw_p35, List.forall_mem_cons.mpr ⟨lw_p36, List.forall_mem_cons.mpr ⟨lw_p37, List.forall_mem_cons.mpr ⟨lw_p38, List.forall_mem_cons.mpr ⟨lw_p39, List.forall_mem_cons.mpr ⟨lw_p40, List.forall_mem_cons.mpr ⟨lw_p41, List.forall_mem_cons.mpr ⟨lw_p42, List.forall_mem_cons.mpr ⟨lw_p43, List.forall_mem_cons.mpr ⟨lw_p44, List.forall_mem_cons.mpr ⟨lw_p45, List.forall_mem_cons.mpr ⟨lw_p46, List.forall_mem_cons.mpr ⟨lw_p47, fun _ h => absurd h List.not_mem_nil⟩⟩⟩⟩⟩⟩⟩⟩⟩⟩⟩⟩⟩⟩⟩⟩
theorem lw_p48 : lw_okq (⟨"DebtFerryModel", "firstLoad", "(I)I"⟩, 29) := ⟨⟨by decide +kernel, by decide +kernel⟩, lw_t5 (List.mem_of_getElem? (i := 92) rfl), lw_t6 (List.mem_of_getElem? (i := 73) rfl), lw_t6 (List.mem_of_getElem? (i := 74) rfl)⟩
theorem lw_p49 : lw_okq (⟨"DebtFerryModel", "pullsBy", "(IIII)Z"⟩, 29) := ⟨⟨by decide +kernel, by decide +kernel⟩, lw_t5 (List.mem_of_getElem? (i := 92) rfl), lw_t6 (List.mem_of_getElem? (i := 81) rfl), lw_t6 (List.mem_of_getElem? (i := 82) rfl)⟩
theorem lw_p50 : lw_okq (⟨"DebtFerryModel", "areSo", "()Z"⟩, 29) := ⟨⟨by decide +kernel, by decide +kernel⟩, lw_t5 (List.mem_of_getElem? (i := 92) rfl), lw_t6 (List.mem_of_getElem? (i := 101) rfl), lw_t6 (List.mem_of_getElem? (i := 102) rfl)⟩
theorem lw_p51 : lw_okq (⟨"DebtFerryModel", "lost", "(I)J"⟩, 29) := ⟨⟨by decide +kernel, by decide +kernel⟩, lw_t5 (List.mem_of_getElem? (i := 92) rfl), lw_t6 (List.mem_of_getElem? (i := 137) rfl), lw_t6 (List.mem_of_getElem? (i := 138) rfl)⟩
theorem lw_p52 : lw_okq (⟨"DebtFerryModel", "begins", "(I)V"⟩, 29) := ⟨⟨by decide +kernel, by decide +kernel⟩, lw_t5 (List.mem_of_getElem? (i := 92) rfl), lw_t6 (List.mem_of_getElem? (i := 149) rfl), lw_t6 (List.mem_of_getElem? (i := 150) rfl)⟩
def lw_privs_4 : List (MethodName × Nat) := [(⟨"DebtFerryModel", "firstLoad", "(I)I"⟩, 29), (⟨"DebtFerryModel", "pullsBy", "(IIII)Z"⟩, 29), (⟨"DebtFerryModel", "areSo", "()Z"⟩, 29), (⟨"DebtFerryModel", "lost", "(I)J"⟩, 29), (⟨"DebtFerryModel", "begins", "(I)V"⟩, 29)]
theorem lw_r4 : ∀ q ∈ lw_privs_4, lw_okq q := List.forall_mem_cons.mpr ⟨lw_p48, List.forall_mem_cons.mpr ⟨lw_p49, List.forall_mem_cons.mpr ⟨lw_p50, List.forall_mem_cons.mpr ⟨lw_p51, List.forall_mem_cons.mpr ⟨lw_p52, fun _ h => absurd h List.not_mem_nil⟩⟩⟩⟩⟩
def lw_privs : List (MethodName × Nat) := lw_privs_1 ++ (lw_privs_2 ++ (lw_privs_3 ++ (lw_privs_4)))
def lw_tbl : List Cond := k2_sels lw_privs ++ tables_1
theorem lw_privs_ok : ∀ q ∈ lw_privs, lw_okq q := by
  show ∀ q ∈ lw_privs_1 ++ (lw_privs_2 ++ (lw_privs_3 ++ (lw_privs_4))), lw_okq q
  exact List.forall_mem_append.mpr ⟨lw_r1, List.forall_mem_append.mpr ⟨lw_r2, List.forall_mem_append.mpr ⟨lw_r3, lw_r4⟩⟩⟩
-- ===== ONE list of words for every method: the tables' words that hold all through a run =====
def lw_all : List Cond := lw_tbl.filter goodWord
/-- a word of the tables by its place: claim/WORDS.tsv -/
theorem lw_w {w : Cond} (i : Nat) (h : lw_tbl[i]? = some w) (g : goodWord w = true) : w ∈ lw_all := List.mem_filter.mpr ⟨List.mem_of_getElem? h, g⟩
theorem lw_all_tbl {w : Cond} (h : w ∈ lw_all) : w ∈ lw_tbl := (List.mem_filter.mp h).1
theorem lw_self : GoodIn lw_all lw_all := fun w h => ⟨h, good_of_word (List.mem_filter.mp h).2⟩
/-- a class's field words, by their places -/
theorem lw_in (ws : List Cond) (ps : List Nat) (hp : ws = ps.filterMap (fun i => lw_tbl[i]?)) (hg : ws.all goodWord = true) : ∀ w ∈ ws, w ∈ lw_all := by
  intro w h
  have h1 := List.all_eq_true.mp hg w h
  rw [hp] at h
  obtain ⟨i, -, hi⟩ := List.mem_filterMap.mp h
  exact lw_w i hi h1
/-- the words of a contract for the method y with code b, L locals, answer r -/
abbrev ws_ (y : MethodName) (b : ByteArray) (L : Nat) (r : Option FieldType) : List Cond := Cond.code y b L r :: lw_all
theorem lw_meth {y : MethodName} {b : ByteArray} {L : Nat} {r : Option FieldType} (h : Cond.code y b L r ∈ lw_all) : GoodIn lw_all (ws_ y b L r) := by
  intro w hw
  rcases List.mem_cons.mp hw with e | e
  · rw [e]
    exact lw_self _ h
  · exact lw_self _ e
theorem lw_app {a c : List Cond} (ha : ∀ w ∈ a, w ∈ lw_all) (hc : GoodIn lw_all c) : GoodIn lw_all (a ++ c) := by
  intro w hw
  rcases List.mem_append.mp hw with e | e
  · exact lw_self w (ha w e)
  · exact hc w e
/-- what a call through an object asks: cwV n hts (lw_V ..) -/
theorem lw_V {own : String} {idx : Nat} {C : String} {y : MethodName} {b : ByteArray} {L : Nat} {r : Option FieldType} (h1 : Cond.methodLink own idx y ∈ lw_all) (h2 : Cond.instanceMethod y ∈ lw_all) (h3 : Cond.selects C y y ∈ lw_all) (h4 : Cond.initialized C ∈ lw_all) (h5 : Cond.code y b L r ∈ lw_all) : GoodIn lw_all (wsV own idx C y (ws_ y b L r)) := by
  refine lw_app ?_ (lw_meth h5)
  intro w hw
  simp only [List.mem_cons, List.not_mem_nil, or_false] at hw
  rcases hw with e | e | e | e
  · rw [e]; exact h1
  · rw [e]; exact h2
  · rw [e]; exact h3
  · rw [e]; exact h4
/-- what a static call asks: va_cwS n hts (lw_S ..) -/
theorem lw_S {own : String} {idx : Nat} {y : MethodName} {b : ByteArray} {L : Nat} {r : Option FieldType} (h1 : Cond.methodLink own idx y ∈ lw_all) (h2 : Cond.static y ∈ lw_all) (h3 : Cond.initialized y.cls ∈ lw_all) (h4 : Cond.code y b L r ∈ lw_all) : GoodIn lw_all (va_wsS own idx y (ws_ y b L r)) := by
  refine lw_app ?_ (lw_meth h4)
  intro w hw
  simp only [List.mem_cons, List.not_mem_nil, or_false] at hw
  rcases hw with e | e | e
  · rw [e]; exact h1
  · rw [e]; exact h2
  · rw [e]; exact h3
/-- the words of a contract for a method WITH HANDLERS (hh: its table) -/
abbrev wsW_ (y : MethodName) (b : ByteArray) (L : Nat) (r : Option FieldType) (hh : List (Nat × Nat × Nat × Nat)) : List Cond := Cond.codeWith y b L r hh :: lw_all
theorem lw_methW {y : MethodName} {b : ByteArray} {L : Nat} {r : Option FieldType} {hh : List (Nat × Nat × Nat × Nat)} (h : Cond.codeWith y b L r hh ∈ lw_all) : GoodIn lw_all (wsW_ y b L r hh) := by
  intro w hw
  rcases List.mem_cons.mp hw with e | e
  · rw [e]
    exact lw_self _ h
  · exact lw_self _ e
/-- any list of words by their places (lw_in), good -/
theorem lw_good {ws : List Cond} (h : ∀ w ∈ ws, w ∈ lw_all) : GoodIn lw_all ws := fun w hw => lw_self w (h w hw)
/-- what a call of a method with handlers asks: vx_cwVW n hts (lw_VW ..), vx_cwSW n hts (lw_SW ..) -/
theorem lw_VW {own : String} {idx : Nat} {C : String} {y : MethodName} {b : ByteArray} {L : Nat} {r : Option FieldType} {hh : List (Nat × Nat × Nat × Nat)} (h1 : Cond.methodLink own idx y ∈ lw_all) (h2 : Cond.instanceMethod y ∈ lw_all) (h3 : Cond.selects C y y ∈ lw_all) (h4 : Cond.initialized C ∈ lw_all) (h5 : Cond.codeWith y b L r hh ∈ lw_all) : GoodIn lw_all (wsV own idx C y (wsW_ y b L r hh)) := by
  refine lw_app ?_ (lw_methW h5)
  intro w hw
  simp only [List.mem_cons, List.not_mem_nil, or_false] at hw
  rcases hw with e | e | e | e
  · rw [e]; exact h1
  · rw [e]; exact h2
  · rw [e]; exact h3
  · rw [e]; exact h4
theorem lw_SW {own : String} {idx : Nat} {y : MethodName} {b : ByteArray} {L : Nat} {r : Option FieldType} {hh : List (Nat × Nat × Nat × Nat)} (h1 : Cond.methodLink own idx y ∈ lw_all) (h2 : Cond.static y ∈ lw_all) (h3 : Cond.initialized y.cls ∈ lw_all) (h4 : Cond.codeWith y b L r hh ∈ lw_all) : GoodIn lw_all (va_wsS own idx y (wsW_ y b L r hh)) := by
  refine lw_app ?_ (lw_methW h4)
  intro w hw
  simp only [List.mem_cons, List.not_mem_nil, or_false] at hw
  rcases hw with e | e | e
  · rw [e]; exact h1
  · rw [e]; exact h2
  · rw [e]; exact h3
/-- a word by its place in its run of the tables -/
theorem lw_at {r : List Cond} (hr : ∀ w ∈ r, w ∈ lw_tbl) {w : Cond} (i : Nat) (h : r[i]? = some w) : w ∈ lw_tbl := hr w (List.mem_of_getElem? h)
theorem lw_g {w : Cond} (h : w ∈ lw_tbl) (g : goodWord w = true) : w ∈ lw_all := List.mem_filter.mpr ⟨h, g⟩
theorem lw_ms : ∀ w ∈ k2_sels lw_privs, w ∈ lw_tbl := fun w h => show w ∈ k2_sels lw_privs ++ tables_1 from List.mem_append_left _ h
theorem lw_m1 : ∀ w ∈ tables_1_1, w ∈ lw_tbl := fun w h => show w ∈ k2_sels lw_privs ++ tables_1 from List.mem_append_right (k2_sels lw_privs) (show w ∈ tables_1 from List.mem_append_left _ h)
theorem lw_m2 : ∀ w ∈ tables_1_2, w ∈ lw_tbl := fun w h => show w ∈ k2_sels lw_privs ++ tables_1 from List.mem_append_right (k2_sels lw_privs) (show w ∈ tables_1 from List.mem_append_right _ (List.mem_append_left _ h))
theorem lw_m3 : ∀ w ∈ tables_1_3, w ∈ lw_tbl := fun w h => show w ∈ k2_sels lw_privs ++ tables_1 from List.mem_append_right (k2_sels lw_privs) (show w ∈ tables_1 from List.mem_append_right _ (List.mem_append_right _ (List.mem_append_left _ h)))
theorem lw_m4 : ∀ w ∈ tables_1_4, w ∈ lw_tbl := fun w h => show w ∈ k2_sels lw_privs ++ tables_1 from List.mem_append_right (k2_sels lw_privs) (show w ∈ tables_1 from List.mem_append_right _ (List.mem_append_right _ (List.mem_append_right _ (List.mem_append_left _ h))))
theorem lw_m5 : ∀ w ∈ tables_1_5, w ∈ lw_tbl := fun w h => show w ∈ k2_sels lw_privs ++ tables_1 from List.mem_append_right (k2_sels lw_privs) (show w ∈ tables_1 from List.mem_append_right _ (List.mem_append_right _ (List.mem_append_right _ (List.mem_append_right _ (List.mem_append_left _ h)))))
theorem lw_m6 : ∀ w ∈ tables_1_6, w ∈ lw_tbl := fun w h => show w ∈ k2_sels lw_privs ++ tables_1 from List.mem_append_right (k2_sels lw_privs) (show w ∈ tables_1 from List.mem_append_right _ (List.mem_append_right _ (List.mem_append_right _ (List.mem_append_right _ (List.mem_append_right _ h)))))
theorem qs0 : (Cond.selects "DebtFerry" ⟨"DebtFerry", "noPerson", "(I)Z"⟩ ⟨"DebtFerry", "noPerson", "(I)Z"⟩) ∈ lw_all := lw_g (lw_at lw_ms 0 rfl) rfl
theorem qs1 : (Cond.selects "DebtFerry" ⟨"DebtFerry", "allOwedBy", "(I)I"⟩ ⟨"DebtFerry", "allOwedBy", "(I)I"⟩) ∈ lw_all := lw_g (lw_at lw_ms 1 rfl) rfl
theorem qs2 : (Cond.selects "DebtFerry" ⟨"DebtFerry", "noteOf", "(II)I"⟩ ⟨"DebtFerry", "noteOf", "(II)I"⟩) ∈ lw_all := lw_g (lw_at lw_ms 2 rfl) rfl
theorem qs3 : (Cond.selects "DebtFerry" ⟨"DebtFerry", "isNoNote", "(II)Z"⟩ ⟨"DebtFerry", "isNoNote", "(II)Z"⟩) ∈ lw_all := lw_g (lw_at lw_ms 3 rfl) rfl
theorem qs4 : (Cond.selects "DebtFerry" ⟨"DebtFerry", "noRiver", "()Z"⟩ ⟨"DebtFerry", "noRiver", "()Z"⟩) ∈ lw_all := lw_g (lw_at lw_ms 4 rfl) rfl
theorem qs5 : (Cond.selects "DebtFerry" ⟨"DebtFerry", "isLoad", "(I)Z"⟩ ⟨"DebtFerry", "isLoad", "(I)Z"⟩) ∈ lw_all := lw_g (lw_at lw_ms 5 rfl) rfl
theorem qs6 : (Cond.selects "DebtFerry" ⟨"DebtFerry", "everyone", "()I"⟩ ⟨"DebtFerry", "everyone", "()I"⟩) ∈ lw_all := lw_g (lw_at lw_ms 6 rfl) rfl
theorem qs7 : (Cond.selects "DebtFerry" ⟨"DebtFerry", "pulling", "(I)I"⟩ ⟨"DebtFerry", "pulling", "(I)I"⟩) ∈ lw_all := lw_g (lw_at lw_ms 7 rfl) rfl
theorem qs8 : (Cond.selects "DebtFerry" ⟨"DebtFerry", "isFair", "(I)Z"⟩ ⟨"DebtFerry", "isFair", "(I)Z"⟩) ∈ lw_all := lw_g (lw_at lw_ms 8 rfl) rfl
theorem qs9 : (Cond.selects "DebtFerry" ⟨"DebtFerry", "reckon", "()V"⟩ ⟨"DebtFerry", "reckon", "()V"⟩) ∈ lw_all := lw_g (lw_at lw_ms 9 rfl) rfl
theorem qs10 : (Cond.selects "DebtFerry" ⟨"DebtFerry", "fewestFor", "(I)I"⟩ ⟨"DebtFerry", "fewestFor", "(I)I"⟩) ∈ lw_all := lw_g (lw_at lw_ms 10 rfl) rfl
theorem qs11 : (Cond.selects "DebtFerry" ⟨"DebtFerry", "firstLoad", "(I)I"⟩ ⟨"DebtFerry", "firstLoad", "(I)I"⟩) ∈ lw_all := lw_g (lw_at lw_ms 11 rfl) rfl
theorem qs12 : (Cond.selects "DebtFerry" ⟨"DebtFerry", "penceTo", "(III)I"⟩ ⟨"DebtFerry", "penceTo", "(III)I"⟩) ∈ lw_all := lw_g (lw_at lw_ms 12 rfl) rfl
theorem qs13 : (Cond.selects "DebtFerry" ⟨"DebtFerry", "keep", "()V"⟩ ⟨"DebtFerry", "keep", "()V"⟩) ∈ lw_all := lw_g (lw_at lw_ms 13 rfl) rfl
theorem qs14 : (Cond.selects "DebtFerry" ⟨"DebtFerry", "putBack", "()V"⟩ ⟨"DebtFerry", "putBack", "()V"⟩) ∈ lw_all := lw_g (lw_at lw_ms 14 rfl) rfl
theorem qs15 : (Cond.selects "java/util/ArrayList" ⟨"java/util/ArrayList", "add", "(Ljava/lang/Object;[Ljava/lang/Object;I)V"⟩ ⟨"java/util/ArrayList", "add", "(Ljava/lang/Object;[Ljava/lang/Object;I)V"⟩) ∈ lw_all := lw_g (lw_at lw_ms 15 rfl) rfl
theorem qs16 : (Cond.selects "java/util/ArrayList" ⟨"java/util/ArrayList", "grow", "()[Ljava/lang/Object;"⟩ ⟨"java/util/ArrayList", "grow", "()[Ljava/lang/Object;"⟩) ∈ lw_all := lw_g (lw_at lw_ms 16 rfl) rfl
theorem qs17 : (Cond.selects "java/util/ArrayList" ⟨"java/util/ArrayList", "grow", "(I)[Ljava/lang/Object;"⟩ ⟨"java/util/ArrayList", "grow", "(I)[Ljava/lang/Object;"⟩) ∈ lw_all := lw_g (lw_at lw_ms 17 rfl) rfl
theorem qs18 : (Cond.selects "java/util/ArrayList" ⟨"java/util/ArrayList", "fastRemove", "([Ljava/lang/Object;I)V"⟩ ⟨"java/util/ArrayList", "fastRemove", "([Ljava/lang/Object;I)V"⟩) ∈ lw_all := lw_g (lw_at lw_ms 18 rfl) rfl
theorem qs19 : (Cond.selects "DebtFerry" ⟨"DebtFerry", "areSo", "()Z"⟩ ⟨"DebtFerry", "areSo", "()Z"⟩) ∈ lw_all := lw_g (lw_at lw_ms 19 rfl) rfl
theorem qs20 : (Cond.selects "DebtFerry" ⟨"DebtFerry", "madeOf", "(IIZ)LDebtFerry$Rider;"⟩ ⟨"DebtFerry", "madeOf", "(IIZ)LDebtFerry$Rider;"⟩) ∈ lw_all := lw_g (lw_at lw_ms 20 rfl) rfl
theorem qs21 : (Cond.selects "java/lang/NullPointerException" ⟨"java/lang/NullPointerException", "getExtendedNPEMessage", "()Ljava/lang/String;"⟩ ⟨"java/lang/NullPointerException", "getExtendedNPEMessage", "()Ljava/lang/String;"⟩) ∈ lw_all := lw_g (lw_at lw_ms 21 rfl) rfl
theorem qs22 : (Cond.selects "java/lang/Throwable" ⟨"java/lang/Throwable", "fillInStackTrace", "(I)Ljava/lang/Throwable;"⟩ ⟨"java/lang/Throwable", "fillInStackTrace", "(I)Ljava/lang/Throwable;"⟩) ∈ lw_all := lw_g (lw_at lw_ms 22 rfl) rfl
theorem qs23 : (Cond.selects "DebtFerry" ⟨"DebtFerry", "refused", "(I)I"⟩ ⟨"DebtFerry", "refused", "(I)I"⟩) ∈ lw_all := lw_g (lw_at lw_ms 23 rfl) rfl
theorem qs24 : (Cond.selects "DebtFerry" ⟨"DebtFerry", "fails", "(I)I"⟩ ⟨"DebtFerry", "fails", "(I)I"⟩) ∈ lw_all := lw_g (lw_at lw_ms 24 rfl) rfl
theorem qs25 : (Cond.selects "DebtFerry" ⟨"DebtFerry", "rowIn", "(I)Ljava/lang/Object;"⟩ ⟨"DebtFerry", "rowIn", "(I)Ljava/lang/Object;"⟩) ∈ lw_all := lw_g (lw_at lw_ms 25 rfl) rfl
theorem qs26 : (Cond.selects "DebtFerry" ⟨"DebtFerry", "failsLong", "(I)J"⟩ ⟨"DebtFerry", "failsLong", "(I)J"⟩) ∈ lw_all := lw_g (lw_at lw_ms 26 rfl) rfl
theorem qs27 : (Cond.selects "DebtFerry" ⟨"DebtFerry", "looked", "(LDebtFerry$Looking;Z)I"⟩ ⟨"DebtFerry", "looked", "(LDebtFerry$Looking;Z)I"⟩) ∈ lw_all := lw_g (lw_at lw_ms 27 rfl) rfl
theorem qs28 : (Cond.selects "DebtFerry" ⟨"DebtFerry", "loadsBarred", "([I)I"⟩ ⟨"DebtFerry", "loadsBarred", "([I)I"⟩) ∈ lw_all := lw_g (lw_at lw_ms 28 rfl) rfl
theorem qs29 : (Cond.selects "DebtFerry" ⟨"DebtFerry", "loadsBy", "([II)I"⟩ ⟨"DebtFerry", "loadsBy", "([II)I"⟩) ∈ lw_all := lw_g (lw_at lw_ms 29 rfl) rfl
theorem qs30 : (Cond.selects "DebtFerry" ⟨"DebtFerry", "newRiver", "([I)I"⟩ ⟨"DebtFerry", "newRiver", "([I)I"⟩) ∈ lw_all := lw_g (lw_at lw_ms 30 rfl) rfl
theorem qs31 : (Cond.selects "DebtFerryModel" ⟨"DebtFerryModel", "against", "(IIII)I"⟩ ⟨"DebtFerryModel", "against", "(IIII)I"⟩) ∈ lw_all := lw_g (lw_at lw_ms 31 rfl) rfl
theorem qs32 : (Cond.selects "DebtFerryModel" ⟨"DebtFerryModel", "fails", "(I)I"⟩ ⟨"DebtFerryModel", "fails", "(I)I"⟩) ∈ lw_all := lw_g (lw_at lw_ms 32 rfl) rfl
theorem qs33 : (Cond.selects "DebtFerryModel" ⟨"DebtFerryModel", "readRiver", "(I)Z"⟩ ⟨"DebtFerryModel", "readRiver", "(I)Z"⟩) ∈ lw_all := lw_g (lw_at lw_ms 33 rfl) rfl
theorem qs34 : (Cond.selects "DebtFerryModel" ⟨"DebtFerryModel", "isSign", "(II)Z"⟩ ⟨"DebtFerryModel", "isSign", "(II)Z"⟩) ∈ lw_all := lw_g (lw_at lw_ms 34 rfl) rfl
theorem qs35 : (Cond.selects "DebtFerryModel" ⟨"DebtFerryModel", "digit", "(III)I"⟩ ⟨"DebtFerryModel", "digit", "(III)I"⟩) ∈ lw_all := lw_g (lw_at lw_ms 35 rfl) rfl
theorem qs36 : (Cond.selects "DebtFerryModel" ⟨"DebtFerryModel", "readPerson", "(II)Z"⟩ ⟨"DebtFerryModel", "readPerson", "(II)Z"⟩) ∈ lw_all := lw_g (lw_at lw_ms 36 rfl) rfl
theorem qs37 : (Cond.selects "DebtFerryModel" ⟨"DebtFerryModel", "takeRiver", "()V"⟩ ⟨"DebtFerryModel", "takeRiver", "()V"⟩) ∈ lw_all := lw_g (lw_at lw_ms 37 rfl) rfl
theorem qs38 : (Cond.selects "DebtFerryModel" ⟨"DebtFerryModel", "isPerson", "(I)Z"⟩ ⟨"DebtFerryModel", "isPerson", "(I)Z"⟩) ∈ lw_all := lw_g (lw_at lw_ms 38 rfl) rfl
theorem qs39 : (Cond.selects "DebtFerryModel" ⟨"DebtFerryModel", "allOf", "(I)I"⟩ ⟨"DebtFerryModel", "allOf", "(I)I"⟩) ∈ lw_all := lw_g (lw_at lw_ms 39 rfl) rfl
theorem qs40 : (Cond.selects "DebtFerryModel" ⟨"DebtFerryModel", "isNote", "(II)Z"⟩ ⟨"DebtFerryModel", "isNote", "(II)Z"⟩) ∈ lw_all := lw_g (lw_at lw_ms 40 rfl) rfl
theorem qs41 : (Cond.selects "DebtFerryModel" ⟨"DebtFerryModel", "isSet", "(I)Z"⟩ ⟨"DebtFerryModel", "isSet", "(I)Z"⟩) ∈ lw_all := lw_g (lw_at lw_ms 41 rfl) rfl
theorem qs42 : (Cond.selects "DebtFerryModel" ⟨"DebtFerryModel", "debtOf", "(II)I"⟩ ⟨"DebtFerryModel", "debtOf", "(II)I"⟩) ∈ lw_all := lw_g (lw_at lw_ms 42 rfl) rfl
theorem qs43 : (Cond.selects "DebtFerryModel" ⟨"DebtFerryModel", "pullersOf", "(I)I"⟩ ⟨"DebtFerryModel", "pullersOf", "(I)I"⟩) ∈ lw_all := lw_g (lw_at lw_ms 43 rfl) rfl
theorem qs44 : (Cond.selects "DebtFerryModel" ⟨"DebtFerryModel", "isFair", "(I)Z"⟩ ⟨"DebtFerryModel", "isFair", "(I)Z"⟩) ∈ lw_all := lw_g (lw_at lw_ms 44 rfl) rfl
theorem qs45 : (Cond.selects "DebtFerryModel" ⟨"DebtFerryModel", "goLoads", "(II)I"⟩ ⟨"DebtFerryModel", "goLoads", "(II)I"⟩) ∈ lw_all := lw_g (lw_at lw_ms 45 rfl) rfl
theorem qs46 : (Cond.selects "DebtFerryModel" ⟨"DebtFerryModel", "tellLoads", "(I)I"⟩ ⟨"DebtFerryModel", "tellLoads", "(I)I"⟩) ∈ lw_all := lw_g (lw_at lw_ms 46 rfl) rfl
theorem qs47 : (Cond.selects "DebtFerryModel" ⟨"DebtFerryModel", "findFewest", "()V"⟩ ⟨"DebtFerryModel", "findFewest", "()V"⟩) ∈ lw_all := lw_g (lw_at lw_ms 47 rfl) rfl
theorem qs48 : (Cond.selects "DebtFerryModel" ⟨"DebtFerryModel", "firstLoad", "(I)I"⟩ ⟨"DebtFerryModel", "firstLoad", "(I)I"⟩) ∈ lw_all := lw_g (lw_at lw_ms 48 rfl) rfl
theorem qs49 : (Cond.selects "DebtFerryModel" ⟨"DebtFerryModel", "pullsBy", "(IIII)Z"⟩ ⟨"DebtFerryModel", "pullsBy", "(IIII)Z"⟩) ∈ lw_all := lw_g (lw_at lw_ms 49 rfl) rfl
theorem qs50 : (Cond.selects "DebtFerryModel" ⟨"DebtFerryModel", "areSo", "()Z"⟩ ⟨"DebtFerryModel", "areSo", "()Z"⟩) ∈ lw_all := lw_g (lw_at lw_ms 50 rfl) rfl
theorem qs51 : (Cond.selects "DebtFerryModel" ⟨"DebtFerryModel", "lost", "(I)J"⟩ ⟨"DebtFerryModel", "lost", "(I)J"⟩) ∈ lw_all := lw_g (lw_at lw_ms 51 rfl) rfl
theorem qs52 : (Cond.selects "DebtFerryModel" ⟨"DebtFerryModel", "begins", "(I)V"⟩ ⟨"DebtFerryModel", "begins", "(I)V"⟩) ∈ lw_all := lw_g (lw_at lw_ms 52 rfl) rfl
-- ===== end of PART A; then your names; then what follows =====
