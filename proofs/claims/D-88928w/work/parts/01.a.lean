section
-- ===== PART A: goes FIRST, ahead of the names: the tables' words, and 'selects' of the private methods out of them =====
/-- a private method of a class that the tables say can be made, by its rows of tables_1 -/
def lw_okq (q : MethodName × Nat) : Prop := (q.1.cls ≠ "java/lang/invoke/MethodHandle" ∧ q.1.cls ≠ "java/lang/invoke/VarHandle") ∧ Cond.instantiable q.1.cls q.2 ∈ tables_1 ∧ Cond.privateMethod q.1 ∈ tables_1 ∧ Cond.instanceMethod q.1 ∈ tables_1
set_option maxRecDepth 100000
theorem lw_t1 {w : Cond} (h : w ∈ tables_1_1) : w ∈ tables_1 := List.mem_append_left _ h
theorem lw_t2 {w : Cond} (h : w ∈ tables_1_2) : w ∈ tables_1 := List.mem_append_right _ (List.mem_append_left _ h)
theorem lw_t3 {w : Cond} (h : w ∈ tables_1_3) : w ∈ tables_1 := List.mem_append_right _ (List.mem_append_right _ (List.mem_append_left _ h))
theorem lw_t4 {w : Cond} (h : w ∈ tables_1_4) : w ∈ tables_1 := List.mem_append_right _ (List.mem_append_right _ (List.mem_append_right _ (List.mem_append_left _ h)))
theorem lw_t5 {w : Cond} (h : w ∈ tables_1_5) : w ∈ tables_1 := List.mem_append_right _ (List.mem_append_right _ (List.mem_append_right _ (List.mem_append_right _ (List.mem_append_left _ h))))
theorem lw_t6 {w : Cond} (h : w ∈ tables_1_6) : w ∈ tables_1 := List.mem_append_right _ (List.mem_append_right _ (List.mem_append_right _ (List.mem_append_right _ (List.mem_append_right _ h))))
theorem lw_p0 : lw_okq (⟨"HeirHunters", "isPerson", "(I)Z"⟩, 41) := ⟨⟨by decide +kernel, by decide +kernel⟩, lw_t1 (List.mem_of_getElem? (i := 21) rfl), lw_t1 (List.mem_of_getElem? (i := 183) rfl), lw_t1 (List.mem_of_getElem? (i := 184) rfl)⟩
theorem lw_p1 : lw_okq (⟨"HeirHunters", "linesTo", "(I)I"⟩, 41) := ⟨⟨by decide +kernel, by decide +kernel⟩, lw_t1 (List.mem_of_getElem? (i := 21) rfl), lw_t1 (List.mem_of_getElem? (i := 187) rfl), lw_t1 (List.mem_of_getElem? (i := 188) rfl)⟩
theorem lw_p2 : lw_okq (⟨"HeirHunters", "hasLine", "(II)Z"⟩, 41) := ⟨⟨by decide +kernel, by decide +kernel⟩, lw_t1 (List.mem_of_getElem? (i := 21) rfl), lw_t1 (List.mem_of_getElem? (i := 199) rfl), lw_t1 (List.mem_of_getElem? (i := 200) rfl)⟩
theorem lw_p3 : lw_okq (⟨"HeirHunters", "isLine", "(I)Z"⟩, 41) := ⟨⟨by decide +kernel, by decide +kernel⟩, lw_t1 (List.mem_of_getElem? (i := 21) rfl), lw_t2 (List.mem_of_getElem? (i := 28) rfl), lw_t2 (List.mem_of_getElem? (i := 29) rfl)⟩
theorem lw_p4 : lw_okq (⟨"HeirHunters", "lineOf", "(II)I"⟩, 41) := ⟨⟨by decide +kernel, by decide +kernel⟩, lw_t1 (List.mem_of_getElem? (i := 21) rfl), lw_t2 (List.mem_of_getElem? (i := 32) rfl), lw_t2 (List.mem_of_getElem? (i := 33) rfl)⟩
theorem lw_p5 : lw_okq (⟨"java/lang/NullPointerException", "getExtendedNPEMessage", "()Ljava/lang/String;"⟩, 8) := ⟨⟨by decide +kernel, by decide +kernel⟩, lw_t2 (List.mem_of_getElem? (i := 87) rfl), lw_t2 (List.mem_of_getElem? (i := 85) rfl), lw_t2 (List.mem_of_getElem? (i := 86) rfl)⟩
theorem lw_p6 : lw_okq (⟨"java/lang/Throwable", "fillInStackTrace", "(I)Ljava/lang/Throwable;"⟩, 6) := ⟨⟨by decide +kernel, by decide +kernel⟩, lw_t2 (List.mem_of_getElem? (i := 99) rfl), lw_t2 (List.mem_of_getElem? (i := 97) rfl), lw_t2 (List.mem_of_getElem? (i := 98) rfl)⟩
theorem lw_p7 : lw_okq (⟨"HeirHunters", "found", "(I)I"⟩, 41) := ⟨⟨by decide +kernel, by decide +kernel⟩, lw_t1 (List.mem_of_getElem? (i := 21) rfl), lw_t2 (List.mem_of_getElem? (i := 159) rfl), lw_t2 (List.mem_of_getElem? (i := 160) rfl)⟩
theorem lw_p8 : lw_okq (⟨"HeirHunters", "need", "(ZI)I"⟩, 41) := ⟨⟨by decide +kernel, by decide +kernel⟩, lw_t1 (List.mem_of_getElem? (i := 21) rfl), lw_t2 (List.mem_of_getElem? (i := 200) rfl), lw_t2 (List.mem_of_getElem? (i := 201) rfl)⟩
theorem lw_p9 : lw_okq (⟨"HeirHunters", "isDead", "(I)Z"⟩, 41) := ⟨⟨by decide +kernel, by decide +kernel⟩, lw_t1 (List.mem_of_getElem? (i := 21) rfl), lw_t2 (List.mem_of_getElem? (i := 204) rfl), lw_t2 (List.mem_of_getElem? (i := 205) rfl)⟩
theorem lw_p10 : lw_okq (⟨"HeirHunters", "lawFor", "(I)I"⟩, 41) := ⟨⟨by decide +kernel, by decide +kernel⟩, lw_t1 (List.mem_of_getElem? (i := 21) rfl), lw_t2 (List.mem_of_getElem? (i := 208) rfl), lw_t2 (List.mem_of_getElem? (i := 209) rfl)⟩
theorem lw_p11 : lw_okq (⟨"HeirHunters", "isOwner", "(I)Z"⟩, 41) := ⟨⟨by decide +kernel, by decide +kernel⟩, lw_t1 (List.mem_of_getElem? (i := 21) rfl), lw_t2 (List.mem_of_getElem? (i := 216) rfl), lw_t2 (List.mem_of_getElem? (i := 217) rfl)⟩
theorem lw_p12 : lw_okq (⟨"HeirHunters", "takeAll", "(Z)V"⟩, 41) := ⟨⟨by decide +kernel, by decide +kernel⟩, lw_t1 (List.mem_of_getElem? (i := 21) rfl), lw_t2 (List.mem_of_getElem? (i := 220) rfl), lw_t2 (List.mem_of_getElem? (i := 221) rfl)⟩
theorem lw_p13 : lw_okq (⟨"HeirHunters", "share", "(I)V"⟩, 41) := ⟨⟨by decide +kernel, by decide +kernel⟩, lw_t1 (List.mem_of_getElem? (i := 21) rfl), lw_t2 (List.mem_of_getElem? (i := 224) rfl), lw_t2 (List.mem_of_getElem? (i := 225) rfl)⟩
theorem lw_p14 : lw_okq (⟨"HeirHunters", "layEstate", "(I)V"⟩, 41) := ⟨⟨by decide +kernel, by decide +kernel⟩, lw_t1 (List.mem_of_getElem? (i := 21) rfl), lw_t2 (List.mem_of_getElem? (i := 228) rfl), lw_t2 (List.mem_of_getElem? (i := 229) rfl)⟩
theorem lw_p15 : lw_okq (⟨"HeirHunters", "findCircle", "()I"⟩, 41) := ⟨⟨by decide +kernel, by decide +kernel⟩, lw_t1 (List.mem_of_getElem? (i := 21) rfl), lw_t3 (List.mem_of_getElem? (i := 11) rfl), lw_t3 (List.mem_of_getElem? (i := 12) rfl)⟩
def lw_privs_1 : List (MethodName × Nat) := [(⟨"HeirHunters", "isPerson", "(I)Z"⟩, 41), (⟨"HeirHunters", "linesTo", "(I)I"⟩, 41), (⟨"HeirHunters", "hasLine", "(II)Z"⟩, 41), (⟨"HeirHunters", "isLine", "(I)Z"⟩, 41), (⟨"HeirHunters", "lineOf", "(II)I"⟩, 41), (⟨"java/lang/NullPointerException", "getExtendedNPEMessage", "()Ljava/lang/String;"⟩, 8), (⟨"java/lang/Throwable", "fillInStackTrace", "(I)Ljava/lang/Throwable;"⟩, 6), (⟨"HeirHunters", "found", "(I)I"⟩, 41), (⟨"HeirHunters", "need", "(ZI)I"⟩, 41), (⟨"HeirHunters", "isDead", "(I)Z"⟩, 41), (⟨"HeirHunters", "lawFor", "(I)I"⟩, 41), (⟨"HeirHunters", "isOwner", "(I)Z"⟩, 41), (⟨"HeirHunters", "takeAll", "(Z)V"⟩, 41), (⟨"HeirHunters", "share", "(I)V"⟩, 41), (⟨"HeirHunters", "layEstate", "(I)V"⟩, 41), (⟨"HeirHunters", "findCircle", "()I"⟩, 41)]
theorem lw_r1 : ∀ q ∈ lw_privs_1, lw_okq q := List.forall_mem_cons.mpr ⟨lw_p0, List.forall_mem_cons.mpr ⟨lw_p1, List.forall_mem_cons.mpr ⟨lw_p2, List.forall_mem_cons.mpr ⟨lw_p3, List.forall_mem_cons.mpr ⟨lw_p4, List.forall_mem_cons.mpr ⟨lw_p5, List.forall_mem_cons.mpr ⟨lw_p6, List.forall_mem_cons.mpr ⟨lw_p7, List.forall_mem_cons.mpr ⟨lw_p8, List.forall_mem_cons.mpr ⟨lw_p9, List.forall_mem_cons.mpr ⟨lw_p10, List.forall_mem_cons.mpr ⟨lw_p11, List.forall_mem_cons.mpr ⟨lw_p12, List.forall_mem_cons.mpr ⟨lw_p13, List.forall_mem_cons.mpr ⟨lw_p14, List.forall_mem_cons.mpr ⟨lw_p15, fun _ h => absurd h List.not_mem_nil⟩⟩⟩⟩⟩⟩⟩⟩⟩⟩⟩⟩⟩⟩⟩⟩
theorem lw_p16 : lw_okq (⟨"HeirHunters", "issueTakes", "(I)Z"⟩, 41) := ⟨⟨by decide +kernel, by decide +kernel⟩, lw_t1 (List.mem_of_getElem? (i := 21) rfl), lw_t3 (List.mem_of_getElem? (i := 15) rfl), lw_t3 (List.mem_of_getElem? (i := 16) rfl)⟩
theorem lw_p17 : lw_okq (⟨"HeirHunters", "isIn", "(I)Z"⟩, 41) := ⟨⟨by decide +kernel, by decide +kernel⟩, lw_t1 (List.mem_of_getElem? (i := 21) rfl), lw_t3 (List.mem_of_getElem? (i := 19) rfl), lw_t3 (List.mem_of_getElem? (i := 20) rfl)⟩
theorem lw_p18 : lw_okq (⟨"HeirHunters", "layHeads", "(I)V"⟩, 41) := ⟨⟨by decide +kernel, by decide +kernel⟩, lw_t1 (List.mem_of_getElem? (i := 21) rfl), lw_t3 (List.mem_of_getElem? (i := 23) rfl), lw_t3 (List.mem_of_getElem? (i := 24) rfl)⟩
theorem lw_p19 : lw_okq (⟨"HeirHunters", "addParents", "(I)V"⟩, 41) := ⟨⟨by decide +kernel, by decide +kernel⟩, lw_t1 (List.mem_of_getElem? (i := 21) rfl), lw_t3 (List.mem_of_getElem? (i := 27) rfl), lw_t3 (List.mem_of_getElem? (i := 28) rfl)⟩
theorem lw_p20 : lw_okq (⟨"HeirHunters", "headsIn", "()I"⟩, 41) := ⟨⟨by decide +kernel, by decide +kernel⟩, lw_t1 (List.mem_of_getElem? (i := 21) rfl), lw_t3 (List.mem_of_getElem? (i := 31) rfl), lw_t3 (List.mem_of_getElem? (i := 32) rfl)⟩
theorem lw_p21 : lw_okq (⟨"HeirHunters", "coupled", "()I"⟩, 41) := ⟨⟨by decide +kernel, by decide +kernel⟩, lw_t1 (List.mem_of_getElem? (i := 21) rfl), lw_t3 (List.mem_of_getElem? (i := 35) rfl), lw_t3 (List.mem_of_getElem? (i := 36) rfl)⟩
theorem lw_p22 : lw_okq (⟨"HeirHunters", "gets", "(IJJ)V"⟩, 41) := ⟨⟨by decide +kernel, by decide +kernel⟩, lw_t1 (List.mem_of_getElem? (i := 21) rfl), lw_t3 (List.mem_of_getElem? (i := 39) rfl), lw_t3 (List.mem_of_getElem? (i := 40) rfl)⟩
theorem lw_p23 : lw_okq (⟨"HeirHunters", "add", "(JJJJ)V"⟩, 41) := ⟨⟨by decide +kernel, by decide +kernel⟩, lw_t1 (List.mem_of_getElem? (i := 21) rfl), lw_t3 (List.mem_of_getElem? (i := 43) rfl), lw_t3 (List.mem_of_getElem? (i := 44) rfl)⟩
theorem lw_p24 : lw_okq (⟨"HeirHunters", "clearDues", "()V"⟩, 41) := ⟨⟨by decide +kernel, by decide +kernel⟩, lw_t1 (List.mem_of_getElem? (i := 21) rfl), lw_t3 (List.mem_of_getElem? (i := 53) rfl), lw_t3 (List.mem_of_getElem? (i := 54) rfl)⟩
theorem lw_p25 : lw_okq (⟨"HeirHunters", "partsAmong", "(IJJ)V"⟩, 41) := ⟨⟨by decide +kernel, by decide +kernel⟩, lw_t1 (List.mem_of_getElem? (i := 21) rfl), lw_t3 (List.mem_of_getElem? (i := 57) rfl), lw_t3 (List.mem_of_getElem? (i := 58) rfl)⟩
theorem lw_p26 : lw_okq (⟨"HeirHunters", "comesTo", "(IJJ)V"⟩, 41) := ⟨⟨by decide +kernel, by decide +kernel⟩, lw_t1 (List.mem_of_getElem? (i := 21) rfl), lw_t3 (List.mem_of_getElem? (i := 61) rfl), lw_t3 (List.mem_of_getElem? (i := 62) rfl)⟩
theorem lw_p27 : lw_okq (⟨"HeirHunters", "handOn", "()V"⟩, 41) := ⟨⟨by decide +kernel, by decide +kernel⟩, lw_t1 (List.mem_of_getElem? (i := 21) rfl), lw_t3 (List.mem_of_getElem? (i := 65) rfl), lw_t3 (List.mem_of_getElem? (i := 66) rfl)⟩
theorem lw_p28 : lw_okq (⟨"HeirHunters", "tells", "(JJ)I"⟩, 41) := ⟨⟨by decide +kernel, by decide +kernel⟩, lw_t1 (List.mem_of_getElem? (i := 21) rfl), lw_t3 (List.mem_of_getElem? (i := 72) rfl), lw_t3 (List.mem_of_getElem? (i := 73) rfl)⟩
theorem lw_p29 : lw_okq (⟨"HeirHunters", "layOpen", "()V"⟩, 41) := ⟨⟨by decide +kernel, by decide +kernel⟩, lw_t1 (List.mem_of_getElem? (i := 21) rfl), lw_t3 (List.mem_of_getElem? (i := 88) rfl), lw_t3 (List.mem_of_getElem? (i := 89) rfl)⟩
theorem lw_p30 : lw_okq (⟨"HeirHunters", "needOpen", "(ZI)I"⟩, 41) := ⟨⟨by decide +kernel, by decide +kernel⟩, lw_t1 (List.mem_of_getElem? (i := 21) rfl), lw_t3 (List.mem_of_getElem? (i := 108) rfl), lw_t3 (List.mem_of_getElem? (i := 109) rfl)⟩
theorem lw_p31 : lw_okq (⟨"HeirHunters", "layBounds", "(III)V"⟩, 41) := ⟨⟨by decide +kernel, by decide +kernel⟩, lw_t1 (List.mem_of_getElem? (i := 21) rfl), lw_t3 (List.mem_of_getElem? (i := 112) rfl), lw_t3 (List.mem_of_getElem? (i := 113) rfl)⟩
def lw_privs_2 : List (MethodName × Nat) := [(⟨"HeirHunters", "issueTakes", "(I)Z"⟩, 41), (⟨"HeirHunters", "isIn", "(I)Z"⟩, 41), (⟨"HeirHunters", "layHeads", "(I)V"⟩, 41), (⟨"HeirHunters", "addParents", "(I)V"⟩, 41), (⟨"HeirHunters", "headsIn", "()I"⟩, 41), (⟨"HeirHunters", "coupled", "()I"⟩, 41), (⟨"HeirHunters", "gets", "(IJJ)V"⟩, 41), (⟨"HeirHunters", "add", "(JJJJ)V"⟩, 41), (⟨"HeirHunters", "clearDues", "()V"⟩, 41), (⟨"HeirHunters", "partsAmong", "(IJJ)V"⟩, 41), (⟨"HeirHunters", "comesTo", "(IJJ)V"⟩, 41), (⟨"HeirHunters", "handOn", "()V"⟩, 41), (⟨"HeirHunters", "tells", "(JJ)I"⟩, 41), (⟨"HeirHunters", "layOpen", "()V"⟩, 41), (⟨"HeirHunters", "needOpen", "(ZI)I"⟩, 41), (⟨"HeirHunters", "layBounds", "(III)V"⟩, 41)]
theorem lw_r2 : ∀ q ∈ lw_privs_2, lw_okq q := List.forall_mem_cons.mpr ⟨lw_p16, List.forall_mem_cons.mpr ⟨lw_p17, List.forall_mem_cons.mpr ⟨lw_p18, List.forall_mem_cons.mpr ⟨lw_p19, List.forall_mem_cons.mpr ⟨lw_p20, List.forall_mem_cons.mpr ⟨lw_p21, List.forall_mem_cons.mpr ⟨lw_p22, List.forall_mem_cons.mpr ⟨lw_p23, List.forall_mem_cons.mpr ⟨lw_p24, List.forall_mem_cons.mpr ⟨lw_p25, List.forall_mem_cons.mpr ⟨lw_p26, List.forall_mem_cons.mpr ⟨lw_p27, List.forall_mem_cons.mpr ⟨lw_p28, List.forall_mem_cons.mpr ⟨lw_p29, List.forall_mem_cons.mpr ⟨lw_p30, List.forall_mem_cons.mpr ⟨lw_p31, fun _ h => absurd h List.not_mem_nil⟩⟩⟩⟩⟩⟩⟩⟩⟩⟩⟩⟩⟩⟩⟩⟩
theorem lw_p32 : lw_okq (⟨"HeirHunters", "keep", "(Z)V"⟩, 41) := ⟨⟨by decide +kernel, by decide +kernel⟩, lw_t1 (List.mem_of_getElem? (i := 21) rfl), lw_t3 (List.mem_of_getElem? (i := 116) rfl), lw_t3 (List.mem_of_getElem? (i := 117) rfl)⟩
theorem lw_p33 : lw_okq (⟨"HeirHunters", "laySpread", "(III)V"⟩, 41) := ⟨⟨by decide +kernel, by decide +kernel⟩, lw_t1 (List.mem_of_getElem? (i := 21) rfl), lw_t3 (List.mem_of_getElem? (i := 130) rfl), lw_t3 (List.mem_of_getElem? (i := 131) rfl)⟩
theorem lw_p34 : lw_okq (⟨"HeirHunters", "layWorth", "(II)V"⟩, 41) := ⟨⟨by decide +kernel, by decide +kernel⟩, lw_t1 (List.mem_of_getElem? (i := 21) rfl), lw_t3 (List.mem_of_getElem? (i := 138) rfl), lw_t3 (List.mem_of_getElem? (i := 139) rfl)⟩
theorem lw_p35 : lw_okq (⟨"HeirHunters", "paidOf", "(I)J"⟩, 41) := ⟨⟨by decide +kernel, by decide +kernel⟩, lw_t1 (List.mem_of_getElem? (i := 21) rfl), lw_t3 (List.mem_of_getElem? (i := 163) rfl), lw_t3 (List.mem_of_getElem? (i := 164) rfl)⟩
theorem lw_p36 : lw_okq (⟨"HeirHunters", "dueOf", "(II)J"⟩, 41) := ⟨⟨by decide +kernel, by decide +kernel⟩, lw_t1 (List.mem_of_getElem? (i := 21) rfl), lw_t3 (List.mem_of_getElem? (i := 171) rfl), lw_t3 (List.mem_of_getElem? (i := 172) rfl)⟩
theorem lw_p37 : lw_okq (⟨"HeirHuntersModel", "isPerson", "(I)Z"⟩, 55) := ⟨⟨by decide +kernel, by decide +kernel⟩, lw_t4 (List.mem_of_getElem? (i := 71) rfl), lw_t5 (List.mem_of_getElem? (i := 18) rfl), lw_t5 (List.mem_of_getElem? (i := 19) rfl)⟩
theorem lw_p38 : lw_okq (⟨"HeirHuntersModel", "tells", "(II)I"⟩, 55) := ⟨⟨by decide +kernel, by decide +kernel⟩, lw_t4 (List.mem_of_getElem? (i := 71) rfl), lw_t5 (List.mem_of_getElem? (i := 22) rfl), lw_t5 (List.mem_of_getElem? (i := 23) rfl)⟩
theorem lw_p39 : lw_okq (⟨"HeirHuntersModel", "linesOf", "(IZ)I"⟩, 55) := ⟨⟨by decide +kernel, by decide +kernel⟩, lw_t4 (List.mem_of_getElem? (i := 71) rfl), lw_t5 (List.mem_of_getElem? (i := 26) rfl), lw_t5 (List.mem_of_getElem? (i := 27) rfl)⟩
theorem lw_p40 : lw_okq (⟨"HeirHuntersModel", "isLine", "(I)Z"⟩, 55) := ⟨⟨by decide +kernel, by decide +kernel⟩, lw_t4 (List.mem_of_getElem? (i := 71) rfl), lw_t5 (List.mem_of_getElem? (i := 42) rfl), lw_t5 (List.mem_of_getElem? (i := 43) rfl)⟩
theorem lw_p41 : lw_okq (⟨"HeirHuntersModel", "tellsLine", "(II)I"⟩, 55) := ⟨⟨by decide +kernel, by decide +kernel⟩, lw_t4 (List.mem_of_getElem? (i := 71) rfl), lw_t5 (List.mem_of_getElem? (i := 46) rfl), lw_t5 (List.mem_of_getElem? (i := 47) rfl)⟩
theorem lw_p42 : lw_okq (⟨"HeirHuntersModel", "meets", "(I)I"⟩, 55) := ⟨⟨by decide +kernel, by decide +kernel⟩, lw_t4 (List.mem_of_getElem? (i := 71) rfl), lw_t5 (List.mem_of_getElem? (i := 54) rfl), lw_t5 (List.mem_of_getElem? (i := 55) rfl)⟩
theorem lw_p43 : lw_okq (⟨"HeirHuntersModel", "asked", "(I)I"⟩, 55) := ⟨⟨by decide +kernel, by decide +kernel⟩, lw_t4 (List.mem_of_getElem? (i := 71) rfl), lw_t5 (List.mem_of_getElem? (i := 78) rfl), lw_t5 (List.mem_of_getElem? (i := 79) rfl)⟩
theorem lw_p44 : lw_okq (⟨"HeirHuntersModel", "isDead", "(I)Z"⟩, 55) := ⟨⟨by decide +kernel, by decide +kernel⟩, lw_t4 (List.mem_of_getElem? (i := 71) rfl), lw_t5 (List.mem_of_getElem? (i := 82) rfl), lw_t5 (List.mem_of_getElem? (i := 83) rfl)⟩
theorem lw_p45 : lw_okq (⟨"HeirHuntersModel", "lawFor", "(I)I"⟩, 55) := ⟨⟨by decide +kernel, by decide +kernel⟩, lw_t4 (List.mem_of_getElem? (i := 71) rfl), lw_t5 (List.mem_of_getElem? (i := 86) rfl), lw_t5 (List.mem_of_getElem? (i := 87) rfl)⟩
theorem lw_p46 : lw_okq (⟨"HeirHuntersModel", "isTaker", "(I)Z"⟩, 55) := ⟨⟨by decide +kernel, by decide +kernel⟩, lw_t4 (List.mem_of_getElem? (i := 71) rfl), lw_t5 (List.mem_of_getElem? (i := 94) rfl), lw_t5 (List.mem_of_getElem? (i := 95) rfl)⟩
theorem lw_p47 : lw_okq (⟨"HeirHuntersModel", "setOpen", "()V"⟩, 55) := ⟨⟨by decide +kernel, by decide +kernel⟩, lw_t4 (List.mem_of_getElem? (i := 71) rfl), lw_t5 (List.mem_of_getElem? (i := 98) rfl), lw_t5 (List.mem_of_getElem? (i := 99) rfl)⟩
def lw_privs_3 : List (MethodName × Nat) := [(⟨"HeirHunters", "keep", "(Z)V"⟩, 41), (⟨"HeirHunters", "laySpread", "(III)V"⟩, 41), (⟨"HeirHunters", "layWorth", "(II)V"⟩, 41), (⟨"HeirHunters", "paidOf", "(I)J"⟩, 41), (⟨"HeirHunters", "dueOf", "(II)J"⟩, 41), (⟨"HeirHuntersModel", "isPerson", "(I)Z"⟩, 55), (⟨"HeirHuntersModel", "tells", "(II)I"⟩, 55), (⟨"HeirHuntersModel", "linesOf", "(IZ)I"⟩, 55), (⟨"HeirHuntersModel", "isLine", "(I)Z"⟩, 55), (⟨"HeirHuntersModel", "tellsLine", "(II)I"⟩, 55), (⟨"HeirHuntersModel", "meets", "(I)I"⟩, 55), (⟨"HeirHuntersModel", "asked", "(I)I"⟩, 55), (⟨"HeirHuntersModel", "isDead", "(I)Z"⟩, 55), (⟨"HeirHuntersModel", "lawFor", "(I)I"⟩, 55), (⟨"HeirHuntersModel", "isTaker", "(I)Z"⟩, 55), (⟨"HeirHuntersModel", "setOpen", "()V"⟩, 55)]
theorem lw_r3 : ∀ q ∈ lw_privs_3, lw_okq q := List.forall_mem_cons.mpr ⟨lw_p32, List.forall_mem_cons.mpr ⟨lw_p33, List.forall_mem_cons.mpr ⟨lw_p34, List.forall_mem_cons.mpr ⟨lw_p35, List.forall_mem_cons.mpr ⟨lw_p36, List.forall_mem_cons.mpr ⟨lw_p37, List.forall_mem_cons.mpr ⟨lw_p38, List.forall_mem_cons.mpr ⟨lw_p39, List.forall_mem_cons.mpr ⟨lw_p40, List.forall_mem_cons.mpr ⟨lw_p41, List.forall_mem_cons.mpr ⟨lw_p42, List.forall_mem_cons.mpr ⟨lw_p43, List.forall_mem_cons.mpr ⟨lw_p44, List.forall_mem_cons.mpr ⟨lw_p45, List.forall_mem_cons.mpr ⟨lw_p46, List.forall_mem_cons.mpr ⟨lw_p47, fun _ h => absurd h List.not_mem_nil⟩⟩⟩⟩⟩⟩⟩⟩⟩⟩⟩⟩⟩⟩⟩⟩
theorem lw_p48 : lw_okq (⟨"HeirHuntersModel", "partAll", "(IZI)V"⟩, 55) := ⟨⟨by decide +kernel, by decide +kernel⟩, lw_t4 (List.mem_of_getElem? (i := 71) rfl), lw_t5 (List.mem_of_getElem? (i := 102) rfl), lw_t5 (List.mem_of_getElem? (i := 103) rfl)⟩
theorem lw_p49 : lw_okq (⟨"HeirHuntersModel", "begin", "(IZI)V"⟩, 55) := ⟨⟨by decide +kernel, by decide +kernel⟩, lw_t4 (List.mem_of_getElem? (i := 71) rfl), lw_t5 (List.mem_of_getElem? (i := 106) rfl), lw_t5 (List.mem_of_getElem? (i := 107) rfl)⟩
theorem lw_p50 : lw_okq (⟨"HeirHuntersModel", "setOrder", "()V"⟩, 55) := ⟨⟨by decide +kernel, by decide +kernel⟩, lw_t4 (List.mem_of_getElem? (i := 71) rfl), lw_t5 (List.mem_of_getElem? (i := 110) rfl), lw_t5 (List.mem_of_getElem? (i := 111) rfl)⟩
theorem lw_p51 : lw_okq (⟨"HeirHuntersModel", "setHeads", "(I)V"⟩, 55) := ⟨⟨by decide +kernel, by decide +kernel⟩, lw_t4 (List.mem_of_getElem? (i := 71) rfl), lw_t5 (List.mem_of_getElem? (i := 114) rfl), lw_t5 (List.mem_of_getElem? (i := 115) rfl)⟩
theorem lw_p52 : lw_okq (⟨"HeirHuntersModel", "addHead", "(I)V"⟩, 55) := ⟨⟨by decide +kernel, by decide +kernel⟩, lw_t4 (List.mem_of_getElem? (i := 71) rfl), lw_t5 (List.mem_of_getElem? (i := 118) rfl), lw_t5 (List.mem_of_getElem? (i := 119) rfl)⟩
theorem lw_p53 : lw_okq (⟨"HeirHuntersModel", "mayTake", "(I)Z"⟩, 55) := ⟨⟨by decide +kernel, by decide +kernel⟩, lw_t4 (List.mem_of_getElem? (i := 71) rfl), lw_t5 (List.mem_of_getElem? (i := 122) rfl), lw_t5 (List.mem_of_getElem? (i := 123) rfl)⟩
theorem lw_p54 : lw_okq (⟨"HeirHuntersModel", "coupled", "()I"⟩, 55) := ⟨⟨by decide +kernel, by decide +kernel⟩, lw_t4 (List.mem_of_getElem? (i := 71) rfl), lw_t5 (List.mem_of_getElem? (i := 126) rfl), lw_t5 (List.mem_of_getElem? (i := 127) rfl)⟩
theorem lw_p55 : lw_okq (⟨"HeirHuntersModel", "gets", "(IJJ)V"⟩, 55) := ⟨⟨by decide +kernel, by decide +kernel⟩, lw_t4 (List.mem_of_getElem? (i := 71) rfl), lw_t5 (List.mem_of_getElem? (i := 130) rfl), lw_t5 (List.mem_of_getElem? (i := 131) rfl)⟩
theorem lw_p56 : lw_okq (⟨"HeirHuntersModel", "add", "(JJJJ)V"⟩, 55) := ⟨⟨by decide +kernel, by decide +kernel⟩, lw_t4 (List.mem_of_getElem? (i := 71) rfl), lw_t5 (List.mem_of_getElem? (i := 134) rfl), lw_t5 (List.mem_of_getElem? (i := 135) rfl)⟩
theorem lw_p57 : lw_okq (⟨"HeirHuntersModel", "give", "(IJJ)V"⟩, 55) := ⟨⟨by decide +kernel, by decide +kernel⟩, lw_t4 (List.mem_of_getElem? (i := 71) rfl), lw_t5 (List.mem_of_getElem? (i := 141) rfl), lw_t5 (List.mem_of_getElem? (i := 142) rfl)⟩
theorem lw_p58 : lw_okq (⟨"HeirHuntersModel", "comeDown", "()V"⟩, 55) := ⟨⟨by decide +kernel, by decide +kernel⟩, lw_t4 (List.mem_of_getElem? (i := 71) rfl), lw_t5 (List.mem_of_getElem? (i := 145) rfl), lw_t5 (List.mem_of_getElem? (i := 146) rfl)⟩
theorem lw_p59 : lw_okq (⟨"HeirHuntersModel", "isHeir", "(II)Z"⟩, 55) := ⟨⟨by decide +kernel, by decide +kernel⟩, lw_t4 (List.mem_of_getElem? (i := 71) rfl), lw_t5 (List.mem_of_getElem? (i := 149) rfl), lw_t5 (List.mem_of_getElem? (i := 150) rfl)⟩
theorem lw_p60 : lw_okq (⟨"HeirHuntersModel", "tell", "(JJ)I"⟩, 55) := ⟨⟨by decide +kernel, by decide +kernel⟩, lw_t4 (List.mem_of_getElem? (i := 71) rfl), lw_t5 (List.mem_of_getElem? (i := 153) rfl), lw_t5 (List.mem_of_getElem? (i := 154) rfl)⟩
theorem lw_p61 : lw_okq (⟨"HeirHuntersModel", "askedOpen", "(I)I"⟩, 55) := ⟨⟨by decide +kernel, by decide +kernel⟩, lw_t4 (List.mem_of_getElem? (i := 71) rfl), lw_t5 (List.mem_of_getElem? (i := 169) rfl), lw_t5 (List.mem_of_getElem? (i := 170) rfl)⟩
theorem lw_p62 : lw_okq (⟨"HeirHuntersModel", "setWays", "(I)V"⟩, 55) := ⟨⟨by decide +kernel, by decide +kernel⟩, lw_t4 (List.mem_of_getElem? (i := 71) rfl), lw_t5 (List.mem_of_getElem? (i := 173) rfl), lw_t5 (List.mem_of_getElem? (i := 174) rfl)⟩
theorem lw_p63 : lw_okq (⟨"HeirHuntersModel", "wayOf", "(IZII)I"⟩, 55) := ⟨⟨by decide +kernel, by decide +kernel⟩, lw_t4 (List.mem_of_getElem? (i := 71) rfl), lw_t5 (List.mem_of_getElem? (i := 177) rfl), lw_t5 (List.mem_of_getElem? (i := 178) rfl)⟩
def lw_privs_4 : List (MethodName × Nat) := [(⟨"HeirHuntersModel", "partAll", "(IZI)V"⟩, 55), (⟨"HeirHuntersModel", "begin", "(IZI)V"⟩, 55), (⟨"HeirHuntersModel", "setOrder", "()V"⟩, 55), (⟨"HeirHuntersModel", "setHeads", "(I)V"⟩, 55), (⟨"HeirHuntersModel", "addHead", "(I)V"⟩, 55), (⟨"HeirHuntersModel", "mayTake", "(I)Z"⟩, 55), (⟨"HeirHuntersModel", "coupled", "()I"⟩, 55), (⟨"HeirHuntersModel", "gets", "(IJJ)V"⟩, 55), (⟨"HeirHuntersModel", "add", "(JJJJ)V"⟩, 55), (⟨"HeirHuntersModel", "give", "(IJJ)V"⟩, 55), (⟨"HeirHuntersModel", "comeDown", "()V"⟩, 55), (⟨"HeirHuntersModel", "isHeir", "(II)Z"⟩, 55), (⟨"HeirHuntersModel", "tell", "(JJ)I"⟩, 55), (⟨"HeirHuntersModel", "askedOpen", "(I)I"⟩, 55), (⟨"HeirHuntersModel", "setWays", "(I)V"⟩, 55), (⟨"HeirHuntersModel", "wayOf", "(IZII)I"⟩, 55)]
theorem lw_r4 : ∀ q ∈ lw_privs_4, lw_okq q := List.forall_mem_cons.mpr ⟨lw_p48, List.forall_mem_cons.mpr ⟨lw_p49, List.forall_mem_cons.mpr ⟨lw_p50, List.forall_mem_cons.mpr ⟨lw_p51, List.forall_mem_cons.mpr ⟨lw_p52, List.forall_mem_cons.mpr ⟨lw_p53, List.forall_mem_cons.mpr ⟨lw_p54, List.forall_mem_cons.mpr ⟨lw_p55, List.forall_mem_cons.mpr ⟨lw_p56, List.forall_mem_cons.mpr ⟨lw_p57, List.forall_mem_cons.mpr ⟨lw_p58, List.forall_mem_cons.mpr ⟨lw_p59, List.forall_mem_cons.mpr ⟨lw_p60, List.forall_mem_cons.mpr ⟨lw_p61, List.forall_mem_cons.mpr ⟨lw_p62, List.forall_mem_cons.mpr ⟨lw_p63, fun _ h => absurd h List.not_mem_nil⟩⟩⟩⟩⟩⟩⟩⟩⟩⟩⟩⟩⟩⟩⟩⟩
theorem lw_p64 : lw_okq (⟨"HeirHuntersModel", "spreadOf", "(II)V"⟩, 55) := ⟨⟨by decide +kernel, by decide +kernel⟩, lw_t4 (List.mem_of_getElem? (i := 71) rfl), lw_t5 (List.mem_of_getElem? (i := 188) rfl), lw_t5 (List.mem_of_getElem? (i := 189) rfl)⟩
theorem lw_p65 : lw_okq (⟨"HeirHuntersModel", "worthOf", "(I)V"⟩, 55) := ⟨⟨by decide +kernel, by decide +kernel⟩, lw_t4 (List.mem_of_getElem? (i := 71) rfl), lw_t5 (List.mem_of_getElem? (i := 196) rfl), lw_t5 (List.mem_of_getElem? (i := 197) rfl)⟩
theorem lw_p66 : lw_okq (⟨"HeirHuntersModel", "allPaid", "(I)I"⟩, 55) := ⟨⟨by decide +kernel, by decide +kernel⟩, lw_t4 (List.mem_of_getElem? (i := 71) rfl), lw_t5 (List.mem_of_getElem? (i := 217) rfl), lw_t5 (List.mem_of_getElem? (i := 218) rfl)⟩
theorem lw_p67 : lw_okq (⟨"HeirHuntersModel", "dueOf", "(II)I"⟩, 55) := ⟨⟨by decide +kernel, by decide +kernel⟩, lw_t4 (List.mem_of_getElem? (i := 71) rfl), lw_t5 (List.mem_of_getElem? (i := 225) rfl), lw_t5 (List.mem_of_getElem? (i := 226) rfl)⟩
theorem lw_p68 : lw_okq (⟨"HeirHuntersModel", "tellsCount", "(I)I"⟩, 55) := ⟨⟨by decide +kernel, by decide +kernel⟩, lw_t4 (List.mem_of_getElem? (i := 71) rfl), lw_t6 (List.mem_of_getElem? (i := 36) rfl), lw_t6 (List.mem_of_getElem? (i := 37) rfl)⟩
def lw_privs_5 : List (MethodName × Nat) := [(⟨"HeirHuntersModel", "spreadOf", "(II)V"⟩, 55), (⟨"HeirHuntersModel", "worthOf", "(I)V"⟩, 55), (⟨"HeirHuntersModel", "allPaid", "(I)I"⟩, 55), (⟨"HeirHuntersModel", "dueOf", "(II)I"⟩, 55), (⟨"HeirHuntersModel", "tellsCount", "(I)I"⟩, 55)]
theorem lw_r5 : ∀ q ∈ lw_privs_5, lw_okq q := List.forall_mem_cons.mpr ⟨lw_p64, List.forall_mem_cons.mpr ⟨lw_p65, List.forall_mem_cons.mpr ⟨lw_p66, List.forall_mem_cons.mpr ⟨lw_p67, List.forall_mem_cons.mpr ⟨lw_p68, fun _ h => absurd h List.not_mem_nil⟩⟩⟩⟩⟩
def lw_privs : List (MethodName × Nat) := lw_privs_1 ++ (lw_privs_2 ++ (lw_privs_3 ++ (lw_privs_4 ++ (lw_privs_5))))
def lw_tbl : List Cond := k2_sels lw_privs ++ tables_1
theorem lw_privs_ok : ∀ q ∈ lw_privs, lw_okq q := by
  show ∀ q ∈ lw_privs_1 ++ (lw_privs_2 ++ (lw_privs_3 ++ (lw_privs_4 ++ (lw_privs_5)))), lw_okq q
  exact List.forall_mem_append.mpr ⟨lw_r1, List.forall_mem_append.mpr ⟨lw_r2, List.forall_mem_append.mpr ⟨lw_r3, List.forall_mem_append.mpr ⟨lw_r4, lw_r5⟩⟩⟩⟩
-- ===== ONE list of words for every method: the tables' words that hold all through a run =====
def lw_all : List Cond := lw_tbl.filter goodWord
/-- a word of the tables by its place: claim/WORDS.tsv -/
theorem lw_w {w : Cond} (i : Nat) (h : lw_tbl[i]? = some w) (g : goodWord w = true) : w ∈ lw_all := List.mem_filter.mpr ⟨List.mem_of_getElem? h, g⟩
theorem lw_all_tbl {w : Cond} (h : w ∈ lw_all) : w ∈ lw_tbl := (List.mem_filter.mp h).1
theorem lw_self : GoodIn lw_all lw_all := fun w h => ⟨h, good_of_word (List.mem_filter.mp h).2⟩
/-- a class's field words, by their places -/
theorem lw_in (ws : List Cond) (ps : List Nat) (hp : ws = ps.filterMap (fun i => lw_tbl[i]?)) (hg : ws.all goodWord = true) : ∀ w ∈ ws, w ∈ lw_all := by
  intro w h
  have h1 := List.all_eq_true.mp hg w h
  rw [hp] at h
  obtain ⟨i, -, hi⟩ := List.mem_filterMap.mp h
  exact lw_w i hi h1
/-- the words of a contract for the method y with code b, L locals, answer r -/
abbrev ws_ (y : MethodName) (b : ByteArray) (L : Nat) (r : Option FieldType) : List Cond := Cond.code y b L r :: lw_all
theorem lw_meth {y : MethodName} {b : ByteArray} {L : Nat} {r : Option FieldType} (h : Cond.code y b L r ∈ lw_all) : GoodIn lw_all (ws_ y b L r) := by
  intro w hw
  rcases List.mem_cons.mp hw with e | e
  · rw [e]
    exact lw_self _ h
  · exact lw_self _ e
theorem lw_app {a c : List Cond} (ha : ∀ w ∈ a, w ∈ lw_all) (hc : GoodIn lw_all c) : GoodIn lw_all (a ++ c) := by
  intro w hw
  rcases List.mem_append.mp hw with e | e
  · exact lw_self w (ha w e)
  · exact hc w e
/-- what a call through an object asks: cwV n hts (lw_V ..) -/
theorem lw_V {own : String} {idx : Nat} {C : String} {y : MethodName} {b : ByteArray} {L : Nat} {r : Option FieldType} (h1 : Cond.methodLink own idx y ∈ lw_all) (h2 : Cond.instanceMethod y ∈ lw_all) (h3 : Cond.selects C y y ∈ lw_all) (h4 : Cond.initialized C ∈ lw_all) (h5 : Cond.code y b L r ∈ lw_all) : GoodIn lw_all (wsV own idx C y (ws_ y b L r)) := by
  refine lw_app ?_ (lw_meth h5)
  intro w hw
  simp only [List.mem_cons, List.not_mem_nil, or_false] at hw
  rcases hw with e | e | e | e
  · rw [e]; exact h1
  · rw [e]; exact h2
  · rw [e]; exact h3
  · rw [e]; exact h4
/-- what a static call asks: va_cwS n hts (lw_S ..) -/
theorem lw_S {own : String} {idx : Nat} {y : MethodName} {b : ByteArray} {L : Nat} {r : Option FieldType} (h1 : Cond.methodLink own idx y ∈ lw_all) (h2 : Cond.static y ∈ lw_all) (h3 : Cond.initialized y.cls ∈ lw_all) (h4 : Cond.code y b L r ∈ lw_all) : GoodIn lw_all (va_wsS own idx y (ws_ y b L r)) := by
  refine lw_app ?_ (lw_meth h4)
  intro w hw
  simp only [List.mem_cons, List.not_mem_nil, or_false] at hw
  rcases hw with e | e | e
  · rw [e]; exact h1
  · rw [e]; exact h2
  · rw [e]; exact h3
/-- the words of a contract for a method WITH HANDLERS (hh: its table) -/
abbrev wsW_ (y : MethodName) (b : ByteArray) (L : Nat) (r : Option FieldType) (hh : List (Nat × Nat × Nat × Nat)) : List Cond := Cond.codeWith y b L r hh :: lw_all
theorem lw_methW {y : MethodName} {b : ByteArray} {L : Nat} {r : Option FieldType} {hh : List (Nat × Nat × Nat × Nat)} (h : Cond.codeWith y b L r hh ∈ lw_all) : GoodIn lw_all (wsW_ y b L r hh) := by
  intro w hw
  rcases List.mem_cons.mp hw with e | e
  · rw [e]
    exact lw_self _ h
  · exact lw_self _ e
/-- any list of words by their places (lw_in), good -/
theorem lw_good {ws : List Cond} (h : ∀ w ∈ ws, w ∈ lw_all) : GoodIn lw_all ws := fun w hw => lw_self w (h w hw)
/-- what a call of a method with handlers asks: vx_cwVW n hts (lw_VW ..), vx_cwSW n hts (lw_SW ..) -/
theorem lw_VW {own : String} {idx : Nat} {C : String} {y : MethodName} {b : ByteArray} {L : Nat} {r : Option FieldType} {hh : List (Nat × Nat × Nat × Nat)} (h1 : Cond.methodLink own idx y ∈ lw_all) (h2 : Cond.instanceMethod y ∈ lw_all) (h3 : Cond.selects C y y ∈ lw_all) (h4 : Cond.initialized C ∈ lw_all) (h5 : Cond.codeWith y b L r hh ∈ lw_all) : GoodIn lw_all (wsV own idx C y (wsW_ y b L r hh)) := by
  refine lw_app ?_ (lw_methW h5)
  intro w hw
  simp only [List.mem_cons, List.not_mem_nil, or_false] at hw
  rcases hw with e | e | e | e
  · rw [e]; exact h1
  · rw [e]; exact h2
  · rw [e]; exact h3
  · rw [e]; exact h4
theorem lw_SW {own : String} {idx : Nat} {y : MethodName} {b : ByteArray} {L : Nat} {r : Option FieldType} {hh : List (Nat × Nat × Nat × Nat)} (h1 : Cond.methodLink own idx y ∈ lw_all) (h2 : Cond.static y ∈ lw_all) (h3 : Cond.initialized y.cls ∈ lw_all) (h4 : Cond.codeWith y b L r hh ∈ lw_all) : GoodIn lw_all (va_wsS own idx y (wsW_ y b L r hh)) := by
  refine lw_app ?_ (lw_methW h4)
  intro w hw
  simp only [List.mem_cons, List.not_mem_nil, or_false] at hw
  rcases hw with e | e | e
  · rw [e]; exact h1
  · rw [e]; exact h2
  · rw [e]; exact h3
/-- a word by its place in its run of the tables -/
theorem lw_at {r : List Cond} (hr : ∀ w ∈ r, w ∈ lw_tbl) {w : Cond} (i : Nat) (h : r[i]? = some w) : w ∈ lw_tbl := hr w (List.mem_of_getElem? h)
theorem lw_g {w : Cond} (h : w ∈ lw_tbl) (g : goodWord w = true) : w ∈ lw_all := List.mem_filter.mpr ⟨h, g⟩
theorem lw_ms : ∀ w ∈ k2_sels lw_privs, w ∈ lw_tbl := fun w h => show w ∈ k2_sels lw_privs ++ tables_1 from List.mem_append_left _ h
theorem lw_m1 : ∀ w ∈ tables_1_1, w ∈ lw_tbl := fun w h => show w ∈ k2_sels lw_privs ++ tables_1 from List.mem_append_right (k2_sels lw_privs) (show w ∈ tables_1 from List.mem_append_left _ h)
theorem lw_m2 : ∀ w ∈ tables_1_2, w ∈ lw_tbl := fun w h => show w ∈ k2_sels lw_privs ++ tables_1 from List.mem_append_right (k2_sels lw_privs) (show w ∈ tables_1 from List.mem_append_right _ (List.mem_append_left _ h))
theorem lw_m3 : ∀ w ∈ tables_1_3, w ∈ lw_tbl := fun w h => show w ∈ k2_sels lw_privs ++ tables_1 from List.mem_append_right (k2_sels lw_privs) (show w ∈ tables_1 from List.mem_append_right _ (List.mem_append_right _ (List.mem_append_left _ h)))
theorem lw_m4 : ∀ w ∈ tables_1_4, w ∈ lw_tbl := fun w h => show w ∈ k2_sels lw_privs ++ tables_1 from List.mem_append_right (k2_sels lw_privs) (show w ∈ tables_1 from List.mem_append_right _ (List.mem_append_right _ (List.mem_append_right _ (List.mem_append_left _ h))))
theorem lw_m5 : ∀ w ∈ tables_1_5, w ∈ lw_tbl := fun w h => show w ∈ k2_sels lw_privs ++ tables_1 from List.mem_append_right (k2_sels lw_privs) (show w ∈ tables_1 from List.mem_append_right _ (List.mem_append_right _ (List.mem_append_right _ (List.mem_append_right _ (List.mem_append_left _ h)))))
theorem lw_m6 : ∀ w ∈ tables_1_6, w ∈ lw_tbl := fun w h => show w ∈ k2_sels lw_privs ++ tables_1 from List.mem_append_right (k2_sels lw_privs) (show w ∈ tables_1 from List.mem_append_right _ (List.mem_append_right _ (List.mem_append_right _ (List.mem_append_right _ (List.mem_append_right _ h)))))
theorem qs0 : (Cond.selects "HeirHunters" ⟨"HeirHunters", "isPerson", "(I)Z"⟩ ⟨"HeirHunters", "isPerson", "(I)Z"⟩) ∈ lw_all := lw_g (lw_at lw_ms 0 rfl) rfl
theorem qs1 : (Cond.selects "HeirHunters" ⟨"HeirHunters", "linesTo", "(I)I"⟩ ⟨"HeirHunters", "linesTo", "(I)I"⟩) ∈ lw_all := lw_g (lw_at lw_ms 1 rfl) rfl
theorem qs2 : (Cond.selects "HeirHunters" ⟨"HeirHunters", "hasLine", "(II)Z"⟩ ⟨"HeirHunters", "hasLine", "(II)Z"⟩) ∈ lw_all := lw_g (lw_at lw_ms 2 rfl) rfl
theorem qs3 : (Cond.selects "HeirHunters" ⟨"HeirHunters", "isLine", "(I)Z"⟩ ⟨"HeirHunters", "isLine", "(I)Z"⟩) ∈ lw_all := lw_g (lw_at lw_ms 3 rfl) rfl
theorem qs4 : (Cond.selects "HeirHunters" ⟨"HeirHunters", "lineOf", "(II)I"⟩ ⟨"HeirHunters", "lineOf", "(II)I"⟩) ∈ lw_all := lw_g (lw_at lw_ms 4 rfl) rfl
theorem qs5 : (Cond.selects "java/lang/NullPointerException" ⟨"java/lang/NullPointerException", "getExtendedNPEMessage", "()Ljava/lang/String;"⟩ ⟨"java/lang/NullPointerException", "getExtendedNPEMessage", "()Ljava/lang/String;"⟩) ∈ lw_all := lw_g (lw_at lw_ms 5 rfl) rfl
theorem qs6 : (Cond.selects "java/lang/Throwable" ⟨"java/lang/Throwable", "fillInStackTrace", "(I)Ljava/lang/Throwable;"⟩ ⟨"java/lang/Throwable", "fillInStackTrace", "(I)Ljava/lang/Throwable;"⟩) ∈ lw_all := lw_g (lw_at lw_ms 6 rfl) rfl
theorem qs7 : (Cond.selects "HeirHunters" ⟨"HeirHunters", "found", "(I)I"⟩ ⟨"HeirHunters", "found", "(I)I"⟩) ∈ lw_all := lw_g (lw_at lw_ms 7 rfl) rfl
theorem qs8 : (Cond.selects "HeirHunters" ⟨"HeirHunters", "need", "(ZI)I"⟩ ⟨"HeirHunters", "need", "(ZI)I"⟩) ∈ lw_all := lw_g (lw_at lw_ms 8 rfl) rfl
theorem qs9 : (Cond.selects "HeirHunters" ⟨"HeirHunters", "isDead", "(I)Z"⟩ ⟨"HeirHunters", "isDead", "(I)Z"⟩) ∈ lw_all := lw_g (lw_at lw_ms 9 rfl) rfl
theorem qs10 : (Cond.selects "HeirHunters" ⟨"HeirHunters", "lawFor", "(I)I"⟩ ⟨"HeirHunters", "lawFor", "(I)I"⟩) ∈ lw_all := lw_g (lw_at lw_ms 10 rfl) rfl
theorem qs11 : (Cond.selects "HeirHunters" ⟨"HeirHunters", "isOwner", "(I)Z"⟩ ⟨"HeirHunters", "isOwner", "(I)Z"⟩) ∈ lw_all := lw_g (lw_at lw_ms 11 rfl) rfl
theorem qs12 : (Cond.selects "HeirHunters" ⟨"HeirHunters", "takeAll", "(Z)V"⟩ ⟨"HeirHunters", "takeAll", "(Z)V"⟩) ∈ lw_all := lw_g (lw_at lw_ms 12 rfl) rfl
theorem qs13 : (Cond.selects "HeirHunters" ⟨"HeirHunters", "share", "(I)V"⟩ ⟨"HeirHunters", "share", "(I)V"⟩) ∈ lw_all := lw_g (lw_at lw_ms 13 rfl) rfl
theorem qs14 : (Cond.selects "HeirHunters" ⟨"HeirHunters", "layEstate", "(I)V"⟩ ⟨"HeirHunters", "layEstate", "(I)V"⟩) ∈ lw_all := lw_g (lw_at lw_ms 14 rfl) rfl
theorem qs15 : (Cond.selects "HeirHunters" ⟨"HeirHunters", "findCircle", "()I"⟩ ⟨"HeirHunters", "findCircle", "()I"⟩) ∈ lw_all := lw_g (lw_at lw_ms 15 rfl) rfl
theorem qs16 : (Cond.selects "HeirHunters" ⟨"HeirHunters", "issueTakes", "(I)Z"⟩ ⟨"HeirHunters", "issueTakes", "(I)Z"⟩) ∈ lw_all := lw_g (lw_at lw_ms 16 rfl) rfl
theorem qs17 : (Cond.selects "HeirHunters" ⟨"HeirHunters", "isIn", "(I)Z"⟩ ⟨"HeirHunters", "isIn", "(I)Z"⟩) ∈ lw_all := lw_g (lw_at lw_ms 17 rfl) rfl
theorem qs18 : (Cond.selects "HeirHunters" ⟨"HeirHunters", "layHeads", "(I)V"⟩ ⟨"HeirHunters", "layHeads", "(I)V"⟩) ∈ lw_all := lw_g (lw_at lw_ms 18 rfl) rfl
theorem qs19 : (Cond.selects "HeirHunters" ⟨"HeirHunters", "addParents", "(I)V"⟩ ⟨"HeirHunters", "addParents", "(I)V"⟩) ∈ lw_all := lw_g (lw_at lw_ms 19 rfl) rfl
theorem qs20 : (Cond.selects "HeirHunters" ⟨"HeirHunters", "headsIn", "()I"⟩ ⟨"HeirHunters", "headsIn", "()I"⟩) ∈ lw_all := lw_g (lw_at lw_ms 20 rfl) rfl
theorem qs21 : (Cond.selects "HeirHunters" ⟨"HeirHunters", "coupled", "()I"⟩ ⟨"HeirHunters", "coupled", "()I"⟩) ∈ lw_all := lw_g (lw_at lw_ms 21 rfl) rfl
theorem qs22 : (Cond.selects "HeirHunters" ⟨"HeirHunters", "gets", "(IJJ)V"⟩ ⟨"HeirHunters", "gets", "(IJJ)V"⟩) ∈ lw_all := lw_g (lw_at lw_ms 22 rfl) rfl
theorem qs23 : (Cond.selects "HeirHunters" ⟨"HeirHunters", "add", "(JJJJ)V"⟩ ⟨"HeirHunters", "add", "(JJJJ)V"⟩) ∈ lw_all := lw_g (lw_at lw_ms 23 rfl) rfl
theorem qs24 : (Cond.selects "HeirHunters" ⟨"HeirHunters", "clearDues", "()V"⟩ ⟨"HeirHunters", "clearDues", "()V"⟩) ∈ lw_all := lw_g (lw_at lw_ms 24 rfl) rfl
theorem qs25 : (Cond.selects "HeirHunters" ⟨"HeirHunters", "partsAmong", "(IJJ)V"⟩ ⟨"HeirHunters", "partsAmong", "(IJJ)V"⟩) ∈ lw_all := lw_g (lw_at lw_ms 25 rfl) rfl
theorem qs26 : (Cond.selects "HeirHunters" ⟨"HeirHunters", "comesTo", "(IJJ)V"⟩ ⟨"HeirHunters", "comesTo", "(IJJ)V"⟩) ∈ lw_all := lw_g (lw_at lw_ms 26 rfl) rfl
theorem qs27 : (Cond.selects "HeirHunters" ⟨"HeirHunters", "handOn", "()V"⟩ ⟨"HeirHunters", "handOn", "()V"⟩) ∈ lw_all := lw_g (lw_at lw_ms 27 rfl) rfl
theorem qs28 : (Cond.selects "HeirHunters" ⟨"HeirHunters", "tells", "(JJ)I"⟩ ⟨"HeirHunters", "tells", "(JJ)I"⟩) ∈ lw_all := lw_g (lw_at lw_ms 28 rfl) rfl
theorem qs29 : (Cond.selects "HeirHunters" ⟨"HeirHunters", "layOpen", "()V"⟩ ⟨"HeirHunters", "layOpen", "()V"⟩) ∈ lw_all := lw_g (lw_at lw_ms 29 rfl) rfl
theorem qs30 : (Cond.selects "HeirHunters" ⟨"HeirHunters", "needOpen", "(ZI)I"⟩ ⟨"HeirHunters", "needOpen", "(ZI)I"⟩) ∈ lw_all := lw_g (lw_at lw_ms 30 rfl) rfl
theorem qs31 : (Cond.selects "HeirHunters" ⟨"HeirHunters", "layBounds", "(III)V"⟩ ⟨"HeirHunters", "layBounds", "(III)V"⟩) ∈ lw_all := lw_g (lw_at lw_ms 31 rfl) rfl
theorem qs32 : (Cond.selects "HeirHunters" ⟨"HeirHunters", "keep", "(Z)V"⟩ ⟨"HeirHunters", "keep", "(Z)V"⟩) ∈ lw_all := lw_g (lw_at lw_ms 32 rfl) rfl
theorem qs33 : (Cond.selects "HeirHunters" ⟨"HeirHunters", "laySpread", "(III)V"⟩ ⟨"HeirHunters", "laySpread", "(III)V"⟩) ∈ lw_all := lw_g (lw_at lw_ms 33 rfl) rfl
theorem qs34 : (Cond.selects "HeirHunters" ⟨"HeirHunters", "layWorth", "(II)V"⟩ ⟨"HeirHunters", "layWorth", "(II)V"⟩) ∈ lw_all := lw_g (lw_at lw_ms 34 rfl) rfl
theorem qs35 : (Cond.selects "HeirHunters" ⟨"HeirHunters", "paidOf", "(I)J"⟩ ⟨"HeirHunters", "paidOf", "(I)J"⟩) ∈ lw_all := lw_g (lw_at lw_ms 35 rfl) rfl
theorem qs36 : (Cond.selects "HeirHunters" ⟨"HeirHunters", "dueOf", "(II)J"⟩ ⟨"HeirHunters", "dueOf", "(II)J"⟩) ∈ lw_all := lw_g (lw_at lw_ms 36 rfl) rfl
theorem qs37 : (Cond.selects "HeirHuntersModel" ⟨"HeirHuntersModel", "isPerson", "(I)Z"⟩ ⟨"HeirHuntersModel", "isPerson", "(I)Z"⟩) ∈ lw_all := lw_g (lw_at lw_ms 37 rfl) rfl
theorem qs38 : (Cond.selects "HeirHuntersModel" ⟨"HeirHuntersModel", "tells", "(II)I"⟩ ⟨"HeirHuntersModel", "tells", "(II)I"⟩) ∈ lw_all := lw_g (lw_at lw_ms 38 rfl) rfl
theorem qs39 : (Cond.selects "HeirHuntersModel" ⟨"HeirHuntersModel", "linesOf", "(IZ)I"⟩ ⟨"HeirHuntersModel", "linesOf", "(IZ)I"⟩) ∈ lw_all := lw_g (lw_at lw_ms 39 rfl) rfl
theorem qs40 : (Cond.selects "HeirHuntersModel" ⟨"HeirHuntersModel", "isLine", "(I)Z"⟩ ⟨"HeirHuntersModel", "isLine", "(I)Z"⟩) ∈ lw_all := lw_g (lw_at lw_ms 40 rfl) rfl
theorem qs41 : (Cond.selects "HeirHuntersModel" ⟨"HeirHuntersModel", "tellsLine", "(II)I"⟩ ⟨"HeirHuntersModel", "tellsLine", "(II)I"⟩) ∈ lw_all := lw_g (lw_at lw_ms 41 rfl) rfl
theorem qs42 : (Cond.selects "HeirHuntersModel" ⟨"HeirHuntersModel", "meets", "(I)I"⟩ ⟨"HeirHuntersModel", "meets", "(I)I"⟩) ∈ lw_all := lw_g (lw_at lw_ms 42 rfl) rfl
theorem qs43 : (Cond.selects "HeirHuntersModel" ⟨"HeirHuntersModel", "asked", "(I)I"⟩ ⟨"HeirHuntersModel", "asked", "(I)I"⟩) ∈ lw_all := lw_g (lw_at lw_ms 43 rfl) rfl
theorem qs44 : (Cond.selects "HeirHuntersModel" ⟨"HeirHuntersModel", "isDead", "(I)Z"⟩ ⟨"HeirHuntersModel", "isDead", "(I)Z"⟩) ∈ lw_all := lw_g (lw_at lw_ms 44 rfl) rfl
theorem qs45 : (Cond.selects "HeirHuntersModel" ⟨"HeirHuntersModel", "lawFor", "(I)I"⟩ ⟨"HeirHuntersModel", "lawFor", "(I)I"⟩) ∈ lw_all := lw_g (lw_at lw_ms 45 rfl) rfl
theorem qs46 : (Cond.selects "HeirHuntersModel" ⟨"HeirHuntersModel", "isTaker", "(I)Z"⟩ ⟨"HeirHuntersModel", "isTaker", "(I)Z"⟩) ∈ lw_all := lw_g (lw_at lw_ms 46 rfl) rfl
theorem qs47 : (Cond.selects "HeirHuntersModel" ⟨"HeirHuntersModel", "setOpen", "()V"⟩ ⟨"HeirHuntersModel", "setOpen", "()V"⟩) ∈ lw_all := lw_g (lw_at lw_ms 47 rfl) rfl
theorem qs48 : (Cond.selects "HeirHuntersModel" ⟨"HeirHuntersModel", "partAll", "(IZI)V"⟩ ⟨"HeirHuntersModel", "partAll", "(IZI)V"⟩) ∈ lw_all := lw_g (lw_at lw_ms 48 rfl) rfl
theorem qs49 : (Cond.selects "HeirHuntersModel" ⟨"HeirHuntersModel", "begin", "(IZI)V"⟩ ⟨"HeirHuntersModel", "begin", "(IZI)V"⟩) ∈ lw_all := lw_g (lw_at lw_ms 49 rfl) rfl
theorem qs50 : (Cond.selects "HeirHuntersModel" ⟨"HeirHuntersModel", "setOrder", "()V"⟩ ⟨"HeirHuntersModel", "setOrder", "()V"⟩) ∈ lw_all := lw_g (lw_at lw_ms 50 rfl) rfl
theorem qs51 : (Cond.selects "HeirHuntersModel" ⟨"HeirHuntersModel", "setHeads", "(I)V"⟩ ⟨"HeirHuntersModel", "setHeads", "(I)V"⟩) ∈ lw_all := lw_g (lw_at lw_ms 51 rfl) rfl
theorem qs52 : (Cond.selects "HeirHuntersModel" ⟨"HeirHuntersModel", "addHead", "(I)V"⟩ ⟨"HeirHuntersModel", "addHead", "(I)V"⟩) ∈ lw_all := lw_g (lw_at lw_ms 52 rfl) rfl
theorem qs53 : (Cond.selects "HeirHuntersModel" ⟨"HeirHuntersModel", "mayTake", "(I)Z"⟩ ⟨"HeirHuntersModel", "mayTake", "(I)Z"⟩) ∈ lw_all := lw_g (lw_at lw_ms 53 rfl) rfl
theorem qs54 : (Cond.selects "HeirHuntersModel" ⟨"HeirHuntersModel", "coupled", "()I"⟩ ⟨"HeirHuntersModel", "coupled", "()I"⟩) ∈ lw_all := lw_g (lw_at lw_ms 54 rfl) rfl
theorem qs55 : (Cond.selects "HeirHuntersModel" ⟨"HeirHuntersModel", "gets", "(IJJ)V"⟩ ⟨"HeirHuntersModel", "gets", "(IJJ)V"⟩) ∈ lw_all := lw_g (lw_at lw_ms 55 rfl) rfl
theorem qs56 : (Cond.selects "HeirHuntersModel" ⟨"HeirHuntersModel", "add", "(JJJJ)V"⟩ ⟨"HeirHuntersModel", "add", "(JJJJ)V"⟩) ∈ lw_all := lw_g (lw_at lw_ms 56 rfl) rfl
theorem qs57 : (Cond.selects "HeirHuntersModel" ⟨"HeirHuntersModel", "give", "(IJJ)V"⟩ ⟨"HeirHuntersModel", "give", "(IJJ)V"⟩) ∈ lw_all := lw_g (lw_at lw_ms 57 rfl) rfl
theorem qs58 : (Cond.selects "HeirHuntersModel" ⟨"HeirHuntersModel", "comeDown", "()V"⟩ ⟨"HeirHuntersModel", "comeDown", "()V"⟩) ∈ lw_all := lw_g (lw_at lw_ms 58 rfl) rfl
theorem qs59 : (Cond.selects "HeirHuntersModel" ⟨"HeirHuntersModel", "isHeir", "(II)Z"⟩ ⟨"HeirHuntersModel", "isHeir", "(II)Z"⟩) ∈ lw_all := lw_g (lw_at lw_ms 59 rfl) rfl
theorem qs60 : (Cond.selects "HeirHuntersModel" ⟨"HeirHuntersModel", "tell", "(JJ)I"⟩ ⟨"HeirHuntersModel", "tell", "(JJ)I"⟩) ∈ lw_all := lw_g (lw_at lw_ms 60 rfl) rfl
theorem qs61 : (Cond.selects "HeirHuntersModel" ⟨"HeirHuntersModel", "askedOpen", "(I)I"⟩ ⟨"HeirHuntersModel", "askedOpen", "(I)I"⟩) ∈ lw_all := lw_g (lw_at lw_ms 61 rfl) rfl
theorem qs62 : (Cond.selects "HeirHuntersModel" ⟨"HeirHuntersModel", "setWays", "(I)V"⟩ ⟨"HeirHuntersModel", "setWays", "(I)V"⟩) ∈ lw_all := lw_g (lw_at lw_ms 62 rfl) rfl
theorem qs63 : (Cond.selects "HeirHuntersModel" ⟨"HeirHuntersModel", "wayOf", "(IZII)I"⟩ ⟨"HeirHuntersModel", "wayOf", "(IZII)I"⟩) ∈ lw_all := lw_g (lw_at lw_ms 63 rfl) rfl
theorem qs64 : (Cond.selects "HeirHuntersModel" ⟨"HeirHuntersModel", "spreadOf", "(II)V"⟩ ⟨"HeirHuntersModel", "spreadOf", "(II)V"⟩) ∈ lw_all := lw_g (lw_at lw_ms 64 rfl) rfl
theorem qs65 : (Cond.selects "HeirHuntersModel" ⟨"HeirHuntersModel", "worthOf", "(I)V"⟩ ⟨"HeirHuntersModel", "worthOf", "(I)V"⟩) ∈ lw_all := lw_g (lw_at lw_ms 65 rfl) rfl
theorem qs66 : (Cond.selects "HeirHuntersModel" ⟨"HeirHuntersModel", "allPaid", "(I)I"⟩ ⟨"HeirHuntersModel", "allPaid", "(I)I"⟩) ∈ lw_all := lw_g (lw_at lw_ms 66 rfl) rfl
theorem qs67 : (Cond.selects "HeirHuntersModel" ⟨"HeirHuntersModel", "dueOf", "(II)I"⟩ ⟨"HeirHuntersModel", "dueOf", "(II)I"⟩) ∈ lw_all := lw_g (lw_at lw_ms 67 rfl) rfl
theorem qs68 : (Cond.selects "HeirHuntersModel" ⟨"HeirHuntersModel", "tellsCount", "(I)I"⟩ ⟨"HeirHuntersModel", "tellsCount", "(I)I"⟩) ∈ lw_all := lw_g (lw_at lw_ms 68 rfl) rfl
end
