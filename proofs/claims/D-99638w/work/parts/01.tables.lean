-- ===== PART A: goes FIRST, ahead of the names: the tables' words, and 'selects' of the private methods out of them =====
/-- a private method of a class that the tables say can be made, by its rows of tables_1 -/
def lw_okq (q : MethodName × Nat) : Prop := (q.1.cls ≠ "java/lang/invoke/MethodHandle" ∧ q.1.cls ≠ "java/lang/invoke/VarHandle") ∧ Cond.instantiable q.1.cls q.2 ∈ tables_1 ∧ Cond.privateMethod q.1 ∈ tables_1 ∧ Cond.instanceMethod q.1 ∈ tables_1
set_option maxRecDepth 100000
theorem lw_t1 {w : Cond} (h : w ∈ tables_1_1) : w ∈ tables_1 := List.mem_append_left _ h
theorem lw_t2 {w : Cond} (h : w ∈ tables_1_2) : w ∈ tables_1 := List.mem_append_right _ (List.mem_append_left _ h)
theorem lw_t3 {w : Cond} (h : w ∈ tables_1_3) : w ∈ tables_1 := List.mem_append_right _ (List.mem_append_right _ (List.mem_append_left _ h))
theorem lw_t4 {w : Cond} (h : w ∈ tables_1_4) : w ∈ tables_1 := List.mem_append_right _ (List.mem_append_right _ (List.mem_append_right _ (List.mem_append_left _ h)))
theorem lw_t5 {w : Cond} (h : w ∈ tables_1_5) : w ∈ tables_1 := List.mem_append_right _ (List.mem_append_right _ (List.mem_append_right _ (List.mem_append_right _ (List.mem_append_left _ h))))
theorem lw_t6 {w : Cond} (h : w ∈ tables_1_6) : w ∈ tables_1 := List.mem_append_right _ (List.mem_append_right _ (List.mem_append_right _ (List.mem_append_right _ (List.mem_append_right _ (List.mem_append_left _ h)))))
theorem lw_t7 {w : Cond} (h : w ∈ tables_1_7) : w ∈ tables_1 := List.mem_append_right _ (List.mem_append_right _ (List.mem_append_right _ (List.mem_append_right _ (List.mem_append_right _ (List.mem_append_right _ h)))))
theorem lw_p0 : lw_okq (⟨"PullThePlug", "begins", "(I)I"⟩, 49) := ⟨⟨by decide +kernel, by decide +kernel⟩, lw_t1 (List.mem_of_getElem? (i := 23) rfl), lw_t2 (List.mem_of_getElem? (i := 5) rfl), lw_t2 (List.mem_of_getElem? (i := 6) rfl)⟩
theorem lw_p1 : lw_okq (⟨"PullThePlug", "readsLake", "()Z"⟩, 49) := ⟨⟨by decide +kernel, by decide +kernel⟩, lw_t1 (List.mem_of_getElem? (i := 23) rfl), lw_t2 (List.mem_of_getElem? (i := 12) rfl), lw_t2 (List.mem_of_getElem? (i := 13) rfl)⟩
theorem lw_p2 : lw_okq (⟨"PullThePlug", "readsBrim", "()I"⟩, 49) := ⟨⟨by decide +kernel, by decide +kernel⟩, lw_t1 (List.mem_of_getElem? (i := 23) rfl), lw_t2 (List.mem_of_getElem? (i := 16) rfl), lw_t2 (List.mem_of_getElem? (i := 17) rfl)⟩
theorem lw_p3 : lw_okq (⟨"PullThePlug", "number", "(I)I"⟩, 49) := ⟨⟨by decide +kernel, by decide +kernel⟩, lw_t1 (List.mem_of_getElem? (i := 23) rfl), lw_t2 (List.mem_of_getElem? (i := 20) rfl), lw_t2 (List.mem_of_getElem? (i := 21) rfl)⟩
theorem lw_p4 : lw_okq (⟨"PullThePlug", "isDigit", "()Z"⟩, 49) := ⟨⟨by decide +kernel, by decide +kernel⟩, lw_t1 (List.mem_of_getElem? (i := 23) rfl), lw_t2 (List.mem_of_getElem? (i := 24) rfl), lw_t2 (List.mem_of_getElem? (i := 25) rfl)⟩
theorem lw_p5 : lw_okq (⟨"PullThePlug", "takesOf", "(Ljava/lang/String;)I"⟩, 49) := ⟨⟨by decide +kernel, by decide +kernel⟩, lw_t1 (List.mem_of_getElem? (i := 23) rfl), lw_t2 (List.mem_of_getElem? (i := 31) rfl), lw_t2 (List.mem_of_getElem? (i := 32) rfl)⟩
theorem lw_p6 : lw_okq (⟨"PullThePlug", "among", "(Ljava/lang/String;)I"⟩, 49) := ⟨⟨by decide +kernel, by decide +kernel⟩, lw_t1 (List.mem_of_getElem? (i := 23) rfl), lw_t2 (List.mem_of_getElem? (i := 35) rfl), lw_t2 (List.mem_of_getElem? (i := 36) rfl)⟩
theorem lw_p7 : lw_okq (⟨"PullThePlug", "takes", "(C)Z"⟩, 49) := ⟨⟨by decide +kernel, by decide +kernel⟩, lw_t1 (List.mem_of_getElem? (i := 23) rfl), lw_t2 (List.mem_of_getElem? (i := 123) rfl), lw_t2 (List.mem_of_getElem? (i := 124) rfl)⟩
theorem lw_p8 : lw_okq (⟨"PullThePlug", "isAt", "(C)Z"⟩, 49) := ⟨⟨by decide +kernel, by decide +kernel⟩, lw_t1 (List.mem_of_getElem? (i := 23) rfl), lw_t2 (List.mem_of_getElem? (i := 127) rfl), lw_t2 (List.mem_of_getElem? (i := 128) rfl)⟩
theorem lw_p9 : lw_okq (⟨"PullThePlug", "faultOf", "(IZ)I"⟩, 49) := ⟨⟨by decide +kernel, by decide +kernel⟩, lw_t1 (List.mem_of_getElem? (i := 23) rfl), lw_t2 (List.mem_of_getElem? (i := 209) rfl), lw_t2 (List.mem_of_getElem? (i := 210) rfl)⟩
theorem lw_p10 : lw_okq (⟨"PullThePlug", "comes", "(I)V"⟩, 49) := ⟨⟨by decide +kernel, by decide +kernel⟩, lw_t1 (List.mem_of_getElem? (i := 23) rfl), lw_t2 (List.mem_of_getElem? (i := 213) rfl), lw_t2 (List.mem_of_getElem? (i := 214) rfl)⟩
theorem lw_p11 : lw_okq (⟨"PullThePlug", "readsRule", "()I"⟩, 49) := ⟨⟨by decide +kernel, by decide +kernel⟩, lw_t1 (List.mem_of_getElem? (i := 23) rfl), lw_t2 (List.mem_of_getElem? (i := 221) rfl), lw_t2 (List.mem_of_getElem? (i := 222) rfl)⟩
theorem lw_p12 : lw_okq (⟨"PullThePlug", "parses", "(I)LPullThePlug$Node;"⟩, 49) := ⟨⟨by decide +kernel, by decide +kernel⟩, lw_t1 (List.mem_of_getElem? (i := 23) rfl), lw_t2 (List.mem_of_getElem? (i := 225) rfl), lw_t2 (List.mem_of_getElem? (i := 226) rfl)⟩
theorem lw_p13 : lw_okq (⟨"PullThePlug", "readsThing", "()LPullThePlug$Node;"⟩, 49) := ⟨⟨by decide +kernel, by decide +kernel⟩, lw_t1 (List.mem_of_getElem? (i := 23) rfl), lw_t2 (List.mem_of_getElem? (i := 229) rfl), lw_t2 (List.mem_of_getElem? (i := 230) rfl)⟩
theorem lw_p14 : lw_okq (⟨"PullThePlug", "water", "(LPullThePlug$Water;)I"⟩, 49) := ⟨⟨by decide +kernel, by decide +kernel⟩, lw_t1 (List.mem_of_getElem? (i := 23) rfl), lw_t3 (List.mem_of_getElem? (i := 73) rfl), lw_t3 (List.mem_of_getElem? (i := 74) rfl)⟩
theorem lw_p15 : lw_okq (⟨"PullThePlug", "all", "()I"⟩, 49) := ⟨⟨by decide +kernel, by decide +kernel⟩, lw_t1 (List.mem_of_getElem? (i := 23) rfl), lw_t3 (List.mem_of_getElem? (i := 77) rfl), lw_t3 (List.mem_of_getElem? (i := 78) rfl)⟩
def lw_privs_1 : List (MethodName × Nat) := [(⟨"PullThePlug", "begins", "(I)I"⟩, 49), (⟨"PullThePlug", "readsLake", "()Z"⟩, 49), (⟨"PullThePlug", "readsBrim", "()I"⟩, 49), (⟨"PullThePlug", "number", "(I)I"⟩, 49), (⟨"PullThePlug", "isDigit", "()Z"⟩, 49), (⟨"PullThePlug", "takesOf", "(Ljava/lang/String;)I"⟩, 49), (⟨"PullThePlug", "among", "(Ljava/lang/String;)I"⟩, 49), (⟨"PullThePlug", "takes", "(C)Z"⟩, 49), (⟨"PullThePlug", "isAt", "(C)Z"⟩, 49), (⟨"PullThePlug", "faultOf", "(IZ)I"⟩, 49), (⟨"PullThePlug", "comes", "(I)V"⟩, 49), (⟨"PullThePlug", "readsRule", "()I"⟩, 49), (⟨"PullThePlug", "parses", "(I)LPullThePlug$Node;"⟩, 49), (⟨"PullThePlug", "readsThing", "()LPullThePlug$Node;"⟩, 49), (⟨"PullThePlug", "water", "(LPullThePlug$Water;)I"⟩, 49), (⟨"PullThePlug", "all", "()I"⟩, 49)]
theorem lw_r1 : ∀ q ∈ lw_privs_1, lw_okq q := List.forall_mem_cons.mpr ⟨lw_p0, List.forall_mem_cons.mpr ⟨lw_p1, List.forall_mem_cons.mpr ⟨lw_p2, List.forall_mem_cons.mpr ⟨lw_p3, List.forall_mem_cons.mpr ⟨lw_p4, List.forall_mem_cons.mpr ⟨lw_p5, List.forall_mem_cons.mpr ⟨lw_p6, List.forall_mem_cons.mpr ⟨lw_p7, List.forall_mem_cons.mpr ⟨lw_p8, List.forall_mem_cons.mpr ⟨lw_p9, List.forall_mem_cons.mpr ⟨lw_p10, List.forall_mem_cons.mpr ⟨lw_p11, List.forall_mem_cons.mpr ⟨lw_p12, List.forall_mem_cons.mpr ⟨lw_p13, List.forall_mem_cons.mpr ⟨lw_p14, List.forall_mem_cons.mpr ⟨lw_p15, fun _ h => absurd h List.not_mem_nil⟩⟩⟩⟩⟩⟩⟩⟩⟩⟩⟩⟩⟩⟩⟩⟩
theorem lw_p16 : lw_okq (⟨"PullThePlug", "sumOf", "([II)I"⟩, 49) := ⟨⟨by decide +kernel, by decide +kernel⟩, lw_t1 (List.mem_of_getElem? (i := 23) rfl), lw_t3 (List.mem_of_getElem? (i := 81) rfl), lw_t3 (List.mem_of_getElem? (i := 82) rfl)⟩
theorem lw_p17 : lw_okq (⟨"PullThePlug", "putsBy", "(LPullThePlug$Water;)V"⟩, 49) := ⟨⟨by decide +kernel, by decide +kernel⟩, lw_t1 (List.mem_of_getElem? (i := 23) rfl), lw_t3 (List.mem_of_getElem? (i := 102) rfl), lw_t3 (List.mem_of_getElem? (i := 103) rfl)⟩
theorem lw_p18 : lw_okq (⟨"PullThePlug", "daysGo", "(LPullThePlug$Water;I)V"⟩, 49) := ⟨⟨by decide +kernel, by decide +kernel⟩, lw_t1 (List.mem_of_getElem? (i := 23) rfl), lw_t3 (List.mem_of_getElem? (i := 106) rfl), lw_t3 (List.mem_of_getElem? (i := 107) rfl)⟩
theorem lw_p19 : lw_okq (⟨"PullThePlug", "dayGoes", "(LPullThePlug$Water;)V"⟩, 49) := ⟨⟨by decide +kernel, by decide +kernel⟩, lw_t1 (List.mem_of_getElem? (i := 23) rfl), lw_t3 (List.mem_of_getElem? (i := 110) rfl), lw_t3 (List.mem_of_getElem? (i := 111) rfl)⟩
theorem lw_p20 : lw_okq (⟨"PullThePlug", "leaksDay", "(LPullThePlug$Water;II)V"⟩, 49) := ⟨⟨by decide +kernel, by decide +kernel⟩, lw_t1 (List.mem_of_getElem? (i := 23) rfl), lw_t3 (List.mem_of_getElem? (i := 114) rfl), lw_t3 (List.mem_of_getElem? (i := 115) rfl)⟩
theorem lw_p21 : lw_okq (⟨"PullThePlug", "run", "(LPullThePlug$Water;I)I"⟩, 49) := ⟨⟨by decide +kernel, by decide +kernel⟩, lw_t1 (List.mem_of_getElem? (i := 23) rfl), lw_t3 (List.mem_of_getElem? (i := 118) rfl), lw_t3 (List.mem_of_getElem? (i := 119) rfl)⟩
theorem lw_p22 : lw_okq (⟨"PullThePlug", "tells", "(J)V"⟩, 49) := ⟨⟨by decide +kernel, by decide +kernel⟩, lw_t1 (List.mem_of_getElem? (i := 23) rfl), lw_t3 (List.mem_of_getElem? (i := 145) rfl), lw_t3 (List.mem_of_getElem? (i := 146) rfl)⟩
theorem lw_p23 : lw_okq (⟨"PullThePlug", "touches", "(LPullThePlug$Water;IZ)I"⟩, 49) := ⟨⟨by decide +kernel, by decide +kernel⟩, lw_t1 (List.mem_of_getElem? (i := 23) rfl), lw_t3 (List.mem_of_getElem? (i := 153) rfl), lw_t3 (List.mem_of_getElem? (i := 154) rfl)⟩
theorem lw_p24 : lw_okq (⟨"PullThePlug", "isLake", "(I)Z"⟩, 49) := ⟨⟨by decide +kernel, by decide +kernel⟩, lw_t1 (List.mem_of_getElem? (i := 23) rfl), lw_t3 (List.mem_of_getElem? (i := 157) rfl), lw_t3 (List.mem_of_getElem? (i := 158) rfl)⟩
theorem lw_p25 : lw_okq (⟨"PullThePlug", "counts", "(I)I"⟩, 49) := ⟨⟨by decide +kernel, by decide +kernel⟩, lw_t1 (List.mem_of_getElem? (i := 23) rfl), lw_t3 (List.mem_of_getElem? (i := 162) rfl), lw_t3 (List.mem_of_getElem? (i := 163) rfl)⟩
theorem lw_p26 : lw_okq (⟨"PullThePlug", "combsOne", "(LPullThePlug$Water;I)I"⟩, 49) := ⟨⟨by decide +kernel, by decide +kernel⟩, lw_t1 (List.mem_of_getElem? (i := 23) rfl), lw_t3 (List.mem_of_getElem? (i := 174) rfl), lw_t3 (List.mem_of_getElem? (i := 175) rfl)⟩
theorem lw_p27 : lw_okq (⟨"PullThePlug", "tapsOne", "(LPullThePlug$Water;II)I"⟩, 49) := ⟨⟨by decide +kernel, by decide +kernel⟩, lw_t1 (List.mem_of_getElem? (i := 23) rfl), lw_t3 (List.mem_of_getElem? (i := 182) rfl), lw_t3 (List.mem_of_getElem? (i := 183) rfl)⟩
theorem lw_p28 : lw_okq (⟨"PullThePlug", "givesOne", "(LPullThePlug$Water;II)I"⟩, 49) := ⟨⟨by decide +kernel, by decide +kernel⟩, lw_t1 (List.mem_of_getElem? (i := 23) rfl), lw_t3 (List.mem_of_getElem? (i := 191) rfl), lw_t3 (List.mem_of_getElem? (i := 192) rfl)⟩
theorem lw_p29 : lw_okq (⟨"PullThePlug", "readsAct", "()Z"⟩, 49) := ⟨⟨by decide +kernel, by decide +kernel⟩, lw_t1 (List.mem_of_getElem? (i := 23) rfl), lw_t3 (List.mem_of_getElem? (i := 199) rfl), lw_t3 (List.mem_of_getElem? (i := 200) rfl)⟩
theorem lw_p30 : lw_okq (⟨"PullThePlug", "does", "(I)Z"⟩, 49) := ⟨⟨by decide +kernel, by decide +kernel⟩, lw_t1 (List.mem_of_getElem? (i := 23) rfl), lw_t3 (List.mem_of_getElem? (i := 204) rfl), lw_t3 (List.mem_of_getElem? (i := 205) rfl)⟩
theorem lw_p31 : lw_okq (⟨"PullThePlug", "daysTill", "(II)I"⟩, 49) := ⟨⟨by decide +kernel, by decide +kernel⟩, lw_t1 (List.mem_of_getElem? (i := 23) rfl), lw_t3 (List.mem_of_getElem? (i := 217) rfl), lw_t3 (List.mem_of_getElem? (i := 218) rfl)⟩
def lw_privs_2 : List (MethodName × Nat) := [(⟨"PullThePlug", "sumOf", "([II)I"⟩, 49), (⟨"PullThePlug", "putsBy", "(LPullThePlug$Water;)V"⟩, 49), (⟨"PullThePlug", "daysGo", "(LPullThePlug$Water;I)V"⟩, 49), (⟨"PullThePlug", "dayGoes", "(LPullThePlug$Water;)V"⟩, 49), (⟨"PullThePlug", "leaksDay", "(LPullThePlug$Water;II)V"⟩, 49), (⟨"PullThePlug", "run", "(LPullThePlug$Water;I)I"⟩, 49), (⟨"PullThePlug", "tells", "(J)V"⟩, 49), (⟨"PullThePlug", "touches", "(LPullThePlug$Water;IZ)I"⟩, 49), (⟨"PullThePlug", "isLake", "(I)Z"⟩, 49), (⟨"PullThePlug", "counts", "(I)I"⟩, 49), (⟨"PullThePlug", "combsOne", "(LPullThePlug$Water;I)I"⟩, 49), (⟨"PullThePlug", "tapsOne", "(LPullThePlug$Water;II)I"⟩, 49), (⟨"PullThePlug", "givesOne", "(LPullThePlug$Water;II)I"⟩, 49), (⟨"PullThePlug", "readsAct", "()Z"⟩, 49), (⟨"PullThePlug", "does", "(I)Z"⟩, 49), (⟨"PullThePlug", "daysTill", "(II)I"⟩, 49)]
theorem lw_r2 : ∀ q ∈ lw_privs_2, lw_okq q := List.forall_mem_cons.mpr ⟨lw_p16, List.forall_mem_cons.mpr ⟨lw_p17, List.forall_mem_cons.mpr ⟨lw_p18, List.forall_mem_cons.mpr ⟨lw_p19, List.forall_mem_cons.mpr ⟨lw_p20, List.forall_mem_cons.mpr ⟨lw_p21, List.forall_mem_cons.mpr ⟨lw_p22, List.forall_mem_cons.mpr ⟨lw_p23, List.forall_mem_cons.mpr ⟨lw_p24, List.forall_mem_cons.mpr ⟨lw_p25, List.forall_mem_cons.mpr ⟨lw_p26, List.forall_mem_cons.mpr ⟨lw_p27, List.forall_mem_cons.mpr ⟨lw_p28, List.forall_mem_cons.mpr ⟨lw_p29, List.forall_mem_cons.mpr ⟨lw_p30, List.forall_mem_cons.mpr ⟨lw_p31, fun _ h => absurd h List.not_mem_nil⟩⟩⟩⟩⟩⟩⟩⟩⟩⟩⟩⟩⟩⟩⟩⟩
theorem lw_p32 : lw_okq (⟨"PullThePlug", "lakesOf", "(I)I"⟩, 49) := ⟨⟨by decide +kernel, by decide +kernel⟩, lw_t1 (List.mem_of_getElem? (i := 23) rfl), lw_t3 (List.mem_of_getElem? (i := 233) rfl), lw_t3 (List.mem_of_getElem? (i := 234) rfl)⟩
theorem lw_p33 : lw_okq (⟨"PullThePlug", "dryOnes", "(LPullThePlug$Water;)I"⟩, 49) := ⟨⟨by decide +kernel, by decide +kernel⟩, lw_t1 (List.mem_of_getElem? (i := 23) rfl), lw_t4 (List.mem_of_getElem? (i := 9) rfl), lw_t4 (List.mem_of_getElem? (i := 10) rfl)⟩
theorem lw_p34 : lw_okq (⟨"PullThePlug", "touchedGo", "(II)V"⟩, 49) := ⟨⟨by decide +kernel, by decide +kernel⟩, lw_t1 (List.mem_of_getElem? (i := 23) rfl), lw_t4 (List.mem_of_getElem? (i := 33) rfl), lw_t4 (List.mem_of_getElem? (i := 34) rfl)⟩
theorem lw_p35 : lw_okq (⟨"PullThePlug", "tellsFewest", "(I)I"⟩, 49) := ⟨⟨by decide +kernel, by decide +kernel⟩, lw_t1 (List.mem_of_getElem? (i := 23) rfl), lw_t4 (List.mem_of_getElem? (i := 37) rfl), lw_t4 (List.mem_of_getElem? (i := 38) rfl)⟩
theorem lw_p36 : lw_okq (⟨"PullThePlug", "areLakes", "(I)Z"⟩, 49) := ⟨⟨by decide +kernel, by decide +kernel⟩, lw_t1 (List.mem_of_getElem? (i := 23) rfl), lw_t4 (List.mem_of_getElem? (i := 45) rfl), lw_t4 (List.mem_of_getElem? (i := 46) rfl)⟩
theorem lw_p37 : lw_okq (⟨"PullThePlug", "laysLeaks", "()I"⟩, 49) := ⟨⟨by decide +kernel, by decide +kernel⟩, lw_t1 (List.mem_of_getElem? (i := 23) rfl), lw_t4 (List.mem_of_getElem? (i := 76) rfl), lw_t4 (List.mem_of_getElem? (i := 77) rfl)⟩
theorem lw_p38 : lw_okq (⟨"PullThePlug", "laysLevels", "(I)V"⟩, 49) := ⟨⟨by decide +kernel, by decide +kernel⟩, lw_t1 (List.mem_of_getElem? (i := 23) rfl), lw_t4 (List.mem_of_getElem? (i := 80) rfl), lw_t4 (List.mem_of_getElem? (i := 81) rfl)⟩
theorem lw_p39 : lw_okq (⟨"PullThePlug", "mostAlike", "(II)I"⟩, 49) := ⟨⟨by decide +kernel, by decide +kernel⟩, lw_t1 (List.mem_of_getElem? (i := 23) rfl), lw_t4 (List.mem_of_getElem? (i := 92) rfl), lw_t4 (List.mem_of_getElem? (i := 93) rfl)⟩
theorem lw_p40 : lw_okq (⟨"PullThePlug", "isBare", "(II)Z"⟩, 49) := ⟨⟨by decide +kernel, by decide +kernel⟩, lw_t1 (List.mem_of_getElem? (i := 23) rfl), lw_t4 (List.mem_of_getElem? (i := 105) rfl), lw_t4 (List.mem_of_getElem? (i := 106) rfl)⟩
theorem lw_p41 : lw_okq (⟨"PullThePlug", "levelOf", "(I)I"⟩, 49) := ⟨⟨by decide +kernel, by decide +kernel⟩, lw_t1 (List.mem_of_getElem? (i := 23) rfl), lw_t4 (List.mem_of_getElem? (i := 109) rfl), lw_t4 (List.mem_of_getElem? (i := 110) rfl)⟩
theorem lw_p42 : lw_okq (⟨"PullThePlug", "givesFrom", "(IIII)V"⟩, 49) := ⟨⟨by decide +kernel, by decide +kernel⟩, lw_t1 (List.mem_of_getElem? (i := 23) rfl), lw_t4 (List.mem_of_getElem? (i := 132) rfl), lw_t4 (List.mem_of_getElem? (i := 133) rfl)⟩
theorem lw_p43 : lw_okq (⟨"PullThePlug", "duckGoes", "()V"⟩, 49) := ⟨⟨by decide +kernel, by decide +kernel⟩, lw_t1 (List.mem_of_getElem? (i := 23) rfl), lw_t4 (List.mem_of_getElem? (i := 142) rfl), lw_t4 (List.mem_of_getElem? (i := 143) rfl)⟩
theorem lw_p44 : lw_okq (⟨"PullThePlug", "areBeside", "(II)Z"⟩, 49) := ⟨⟨by decide +kernel, by decide +kernel⟩, lw_t1 (List.mem_of_getElem? (i := 23) rfl), lw_t4 (List.mem_of_getElem? (i := 146) rfl), lw_t4 (List.mem_of_getElem? (i := 147) rfl)⟩
theorem lw_p45 : lw_okq (⟨"PullThePlug", "draws", "(I)I"⟩, 49) := ⟨⟨by decide +kernel, by decide +kernel⟩, lw_t1 (List.mem_of_getElem? (i := 23) rfl), lw_t4 (List.mem_of_getElem? (i := 175) rfl), lw_t4 (List.mem_of_getElem? (i := 176) rfl)⟩
theorem lw_p46 : lw_okq (⟨"PullThePlug", "fullOnes", "()I"⟩, 49) := ⟨⟨by decide +kernel, by decide +kernel⟩, lw_t1 (List.mem_of_getElem? (i := 23) rfl), lw_t4 (List.mem_of_getElem? (i := 192) rfl), lw_t4 (List.mem_of_getElem? (i := 193) rfl)⟩
theorem lw_p47 : lw_okq (⟨"java/lang/Throwable", "fillInStackTrace", "(I)Ljava/lang/Throwable;"⟩, 6) := ⟨⟨by decide +kernel, by decide +kernel⟩, lw_t5 (List.mem_of_getElem? (i := 0) rfl), lw_t4 (List.mem_of_getElem? (i := 238) rfl), lw_t4 (List.mem_of_getElem? (i := 239) rfl)⟩
def lw_privs_3 : List (MethodName × Nat) := [(⟨"PullThePlug", "lakesOf", "(I)I"⟩, 49), (⟨"PullThePlug", "dryOnes", "(LPullThePlug$Water;)I"⟩, 49), (⟨"PullThePlug", "touchedGo", "(II)V"⟩, 49), (⟨"PullThePlug", "tellsFewest", "(I)I"⟩, 49), (⟨"PullThePlug", "areLakes", "(I)Z"⟩, 49), (⟨"PullThePlug", "laysLeaks", "()I"⟩, 49), (⟨"PullThePlug", "laysLevels", "(I)V"⟩, 49), (⟨"PullThePlug", "mostAlike", "(II)I"⟩, 49), (⟨"PullThePlug", "isBare", "(II)Z"⟩, 49), (⟨"PullThePlug", "levelOf", "(I)I"⟩, 49), (⟨"PullThePlug", "givesFrom", "(IIII)V"⟩, 49), (⟨"PullThePlug", "duckGoes", "()V"⟩, 49), (⟨"PullThePlug", "areBeside", "(II)Z"⟩, 49), (⟨"PullThePlug", "draws", "(I)I"⟩, 49), (⟨"PullThePlug", "fullOnes", "()I"⟩, 49), (⟨"java/lang/Throwable", "fillInStackTrace", "(I)Ljava/lang/Throwable;"⟩, 6)]
theorem lw_r3 : ∀ q ∈ lw_privs_3, lw_okq q := List.forall_mem_cons.mpr ⟨lw_p32, List.forall_mem_cons.mpr ⟨lw_p33, List.forall_mem_cons.mpr ⟨lw_p34, List.forall_mem_cons.mpr ⟨lw_p35, List.forall_mem_cons.mpr ⟨lw_p36, List.forall_mem_cons.mpr ⟨lw_p37, List.forall_mem_cons.mpr ⟨lw_p38, List.forall_mem_cons.mpr ⟨lw_p39, List.forall_mem_cons.mpr ⟨lw_p40, List.forall_mem_cons.mpr ⟨lw_p41, List.forall_mem_cons.mpr ⟨lw_p42, List.forall_mem_cons.mpr ⟨lw_p43, List.forall_mem_cons.mpr ⟨lw_p44, List.forall_mem_cons.mpr ⟨lw_p45, List.forall_mem_cons.mpr ⟨lw_p46, List.forall_mem_cons.mpr ⟨lw_p47, fun _ h => absurd h List.not_mem_nil⟩⟩⟩⟩⟩⟩⟩⟩⟩⟩⟩⟩⟩⟩⟩⟩
theorem lw_p48 : lw_okq (⟨"PullThePlugModel", "beginText", "(I)V"⟩, 43) := ⟨⟨by decide +kernel, by decide +kernel⟩, lw_t5 (List.mem_of_getElem? (i := 32) rfl), lw_t5 (List.mem_of_getElem? (i := 187) rfl), lw_t5 (List.mem_of_getElem? (i := 188) rfl)⟩
theorem lw_p49 : lw_okq (⟨"PullThePlugModel", "begin", "([BII)V"⟩, 43) := ⟨⟨by decide +kernel, by decide +kernel⟩, lw_t5 (List.mem_of_getElem? (i := 32) rfl), lw_t5 (List.mem_of_getElem? (i := 191) rfl), lw_t5 (List.mem_of_getElem? (i := 192) rfl)⟩
theorem lw_p50 : lw_okq (⟨"PullThePlugModel", "fine", "()Z"⟩, 43) := ⟨⟨by decide +kernel, by decide +kernel⟩, lw_t5 (List.mem_of_getElem? (i := 32) rfl), lw_t5 (List.mem_of_getElem? (i := 195) rfl), lw_t5 (List.mem_of_getElem? (i := 196) rfl)⟩
theorem lw_p51 : lw_okq (⟨"PullThePlugModel", "fault", "(I)V"⟩, 43) := ⟨⟨by decide +kernel, by decide +kernel⟩, lw_t5 (List.mem_of_getElem? (i := 32) rfl), lw_t5 (List.mem_of_getElem? (i := 199) rfl), lw_t5 (List.mem_of_getElem? (i := 200) rfl)⟩
theorem lw_p52 : lw_okq (⟨"PullThePlugModel", "readLake", "(I)V"⟩, 43) := ⟨⟨by decide +kernel, by decide +kernel⟩, lw_t5 (List.mem_of_getElem? (i := 32) rfl), lw_t5 (List.mem_of_getElem? (i := 203) rfl), lw_t5 (List.mem_of_getElem? (i := 204) rfl)⟩
theorem lw_p53 : lw_okq (⟨"PullThePlugModel", "oneOf", "(CI)I"⟩, 43) := ⟨⟨by decide +kernel, by decide +kernel⟩, lw_t5 (List.mem_of_getElem? (i := 32) rfl), lw_t5 (List.mem_of_getElem? (i := 207) rfl), lw_t5 (List.mem_of_getElem? (i := 208) rfl)⟩
theorem lw_p54 : lw_okq (⟨"PullThePlugModel", "here", "()I"⟩, 43) := ⟨⟨by decide +kernel, by decide +kernel⟩, lw_t5 (List.mem_of_getElem? (i := 32) rfl), lw_t5 (List.mem_of_getElem? (i := 211) rfl), lw_t5 (List.mem_of_getElem? (i := 212) rfl)⟩
theorem lw_p55 : lw_okq (⟨"PullThePlugModel", "passes", "(C)Z"⟩, 43) := ⟨⟨by decide +kernel, by decide +kernel⟩, lw_t5 (List.mem_of_getElem? (i := 32) rfl), lw_t5 (List.mem_of_getElem? (i := 215) rfl), lw_t5 (List.mem_of_getElem? (i := 216) rfl)⟩
theorem lw_p56 : lw_okq (⟨"PullThePlugModel", "wasRight", "()Z"⟩, 43) := ⟨⟨by decide +kernel, by decide +kernel⟩, lw_t5 (List.mem_of_getElem? (i := 32) rfl), lw_t5 (List.mem_of_getElem? (i := 219) rfl), lw_t5 (List.mem_of_getElem? (i := 220) rfl)⟩
theorem lw_p57 : lw_okq (⟨"PullThePlugModel", "readRule", "()Z"⟩, 43) := ⟨⟨by decide +kernel, by decide +kernel⟩, lw_t5 (List.mem_of_getElem? (i := 32) rfl), lw_t5 (List.mem_of_getElem? (i := 227) rfl), lw_t5 (List.mem_of_getElem? (i := 228) rfl)⟩
theorem lw_p58 : lw_okq (⟨"PullThePlugModel", "held", "(I)I"⟩, 43) := ⟨⟨by decide +kernel, by decide +kernel⟩, lw_t5 (List.mem_of_getElem? (i := 32) rfl), lw_t5 (List.mem_of_getElem? (i := 231) rfl), lw_t5 (List.mem_of_getElem? (i := 232) rfl)⟩
theorem lw_p59 : lw_okq (⟨"PullThePlugModel", "sum", "(I)I"⟩, 43) := ⟨⟨by decide +kernel, by decide +kernel⟩, lw_t5 (List.mem_of_getElem? (i := 32) rfl), lw_t5 (List.mem_of_getElem? (i := 235) rfl), lw_t5 (List.mem_of_getElem? (i := 236) rfl)⟩
theorem lw_p60 : lw_okq (⟨"PullThePlugModel", "product", "(I)I"⟩, 43) := ⟨⟨by decide +kernel, by decide +kernel⟩, lw_t5 (List.mem_of_getElem? (i := 32) rfl), lw_t5 (List.mem_of_getElem? (i := 239) rfl), lw_t6 (List.mem_of_getElem? (i := 0) rfl)⟩
theorem lw_p61 : lw_okq (⟨"PullThePlugModel", "thing", "(I)I"⟩, 43) := ⟨⟨by decide +kernel, by decide +kernel⟩, lw_t5 (List.mem_of_getElem? (i := 32) rfl), lw_t6 (List.mem_of_getElem? (i := 3) rfl), lw_t6 (List.mem_of_getElem? (i := 4) rfl)⟩
theorem lw_p62 : lw_okq (⟨"PullThePlugModel", "need", "(C)V"⟩, 43) := ⟨⟨by decide +kernel, by decide +kernel⟩, lw_t5 (List.mem_of_getElem? (i := 32) rfl), lw_t6 (List.mem_of_getElem? (i := 7) rfl), lw_t6 (List.mem_of_getElem? (i := 8) rfl)⟩
theorem lw_p63 : lw_okq (⟨"PullThePlugModel", "number", "(I)I"⟩, 43) := ⟨⟨by decide +kernel, by decide +kernel⟩, lw_t5 (List.mem_of_getElem? (i := 32) rfl), lw_t6 (List.mem_of_getElem? (i := 11) rfl), lw_t6 (List.mem_of_getElem? (i := 12) rfl)⟩
def lw_privs_4 : List (MethodName × Nat) := [(⟨"PullThePlugModel", "beginText", "(I)V"⟩, 43), (⟨"PullThePlugModel", "begin", "([BII)V"⟩, 43), (⟨"PullThePlugModel", "fine", "()Z"⟩, 43), (⟨"PullThePlugModel", "fault", "(I)V"⟩, 43), (⟨"PullThePlugModel", "readLake", "(I)V"⟩, 43), (⟨"PullThePlugModel", "oneOf", "(CI)I"⟩, 43), (⟨"PullThePlugModel", "here", "()I"⟩, 43), (⟨"PullThePlugModel", "passes", "(C)Z"⟩, 43), (⟨"PullThePlugModel", "wasRight", "()Z"⟩, 43), (⟨"PullThePlugModel", "readRule", "()Z"⟩, 43), (⟨"PullThePlugModel", "held", "(I)I"⟩, 43), (⟨"PullThePlugModel", "sum", "(I)I"⟩, 43), (⟨"PullThePlugModel", "product", "(I)I"⟩, 43), (⟨"PullThePlugModel", "thing", "(I)I"⟩, 43), (⟨"PullThePlugModel", "need", "(C)V"⟩, 43), (⟨"PullThePlugModel", "number", "(I)I"⟩, 43)]
theorem lw_r4 : ∀ q ∈ lw_privs_4, lw_okq q := List.forall_mem_cons.mpr ⟨lw_p48, List.forall_mem_cons.mpr ⟨lw_p49, List.forall_mem_cons.mpr ⟨lw_p50, List.forall_mem_cons.mpr ⟨lw_p51, List.forall_mem_cons.mpr ⟨lw_p52, List.forall_mem_cons.mpr ⟨lw_p53, List.forall_mem_cons.mpr ⟨lw_p54, List.forall_mem_cons.mpr ⟨lw_p55, List.forall_mem_cons.mpr ⟨lw_p56, List.forall_mem_cons.mpr ⟨lw_p57, List.forall_mem_cons.mpr ⟨lw_p58, List.forall_mem_cons.mpr ⟨lw_p59, List.forall_mem_cons.mpr ⟨lw_p60, List.forall_mem_cons.mpr ⟨lw_p61, List.forall_mem_cons.mpr ⟨lw_p62, List.forall_mem_cons.mpr ⟨lw_p63, fun _ h => absurd h List.not_mem_nil⟩⟩⟩⟩⟩⟩⟩⟩⟩⟩⟩⟩⟩⟩⟩⟩
theorem lw_p64 : lw_okq (⟨"PullThePlugModel", "isLake", "(I)Z"⟩, 43) := ⟨⟨by decide +kernel, by decide +kernel⟩, lw_t5 (List.mem_of_getElem? (i := 32) rfl), lw_t6 (List.mem_of_getElem? (i := 22) rfl), lw_t6 (List.mem_of_getElem? (i := 23) rfl)⟩
theorem lw_p65 : lw_okq (⟨"PullThePlugModel", "lost", "()I"⟩, 43) := ⟨⟨by decide +kernel, by decide +kernel⟩, lw_t5 (List.mem_of_getElem? (i := 32) rfl), lw_t6 (List.mem_of_getElem? (i := 26) rfl), lw_t6 (List.mem_of_getElem? (i := 27) rfl)⟩
theorem lw_p66 : lw_okq (⟨"PullThePlugModel", "runOf", "([II)I"⟩, 43) := ⟨⟨by decide +kernel, by decide +kernel⟩, lw_t5 (List.mem_of_getElem? (i := 32) rfl), lw_t6 (List.mem_of_getElem? (i := 30) rfl), lw_t6 (List.mem_of_getElem? (i := 31) rfl)⟩
theorem lw_p67 : lw_okq (⟨"PullThePlugModel", "outOnes", "([I)I"⟩, 43) := ⟨⟨by decide +kernel, by decide +kernel⟩, lw_t5 (List.mem_of_getElem? (i := 32) rfl), lw_t6 (List.mem_of_getElem? (i := 34) rfl), lw_t6 (List.mem_of_getElem? (i := 35) rfl)⟩
theorem lw_p68 : lw_okq (⟨"PullThePlugModel", "sumOf", "([II)I"⟩, 43) := ⟨⟨by decide +kernel, by decide +kernel⟩, lw_t5 (List.mem_of_getElem? (i := 32) rfl), lw_t6 (List.mem_of_getElem? (i := 45) rfl), lw_t6 (List.mem_of_getElem? (i := 46) rfl)⟩
theorem lw_p69 : lw_okq (⟨"PullThePlugModel", "remember", "([I)V"⟩, 43) := ⟨⟨by decide +kernel, by decide +kernel⟩, lw_t5 (List.mem_of_getElem? (i := 32) rfl), lw_t6 (List.mem_of_getElem? (i := 53) rfl), lw_t6 (List.mem_of_getElem? (i := 54) rfl)⟩
theorem lw_p70 : lw_okq (⟨"PullThePlugModel", "goDays", "([II)V"⟩, 43) := ⟨⟨by decide +kernel, by decide +kernel⟩, lw_t5 (List.mem_of_getElem? (i := 32) rfl), lw_t6 (List.mem_of_getElem? (i := 60) rfl), lw_t6 (List.mem_of_getElem? (i := 61) rfl)⟩
theorem lw_p71 : lw_okq (⟨"PullThePlugModel", "goDay", "([I)V"⟩, 43) := ⟨⟨by decide +kernel, by decide +kernel⟩, lw_t5 (List.mem_of_getElem? (i := 32) rfl), lw_t6 (List.mem_of_getElem? (i := 64) rfl), lw_t6 (List.mem_of_getElem? (i := 65) rfl)⟩
theorem lw_p72 : lw_okq (⟨"PullThePlugModel", "tell", "(J)V"⟩, 43) := ⟨⟨by decide +kernel, by decide +kernel⟩, lw_t5 (List.mem_of_getElem? (i := 32) rfl), lw_t6 (List.mem_of_getElem? (i := 68) rfl), lw_t6 (List.mem_of_getElem? (i := 69) rfl)⟩
theorem lw_p73 : lw_okq (⟨"PullThePlugModel", "touches", "(II)I"⟩, 43) := ⟨⟨by decide +kernel, by decide +kernel⟩, lw_t5 (List.mem_of_getElem? (i := 32) rfl), lw_t6 (List.mem_of_getElem? (i := 76) rfl), lw_t6 (List.mem_of_getElem? (i := 77) rfl)⟩
theorem lw_p74 : lw_okq (⟨"PullThePlugModel", "refusesPlug", "(II)I"⟩, 43) := ⟨⟨by decide +kernel, by decide +kernel⟩, lw_t5 (List.mem_of_getElem? (i := 32) rfl), lw_t6 (List.mem_of_getElem? (i := 80) rfl), lw_t6 (List.mem_of_getElem? (i := 81) rfl)⟩
theorem lw_p75 : lw_okq (⟨"PullThePlugModel", "refusesComb", "(I)I"⟩, 43) := ⟨⟨by decide +kernel, by decide +kernel⟩, lw_t5 (List.mem_of_getElem? (i := 32) rfl), lw_t6 (List.mem_of_getElem? (i := 92) rfl), lw_t6 (List.mem_of_getElem? (i := 93) rfl)⟩
theorem lw_p76 : lw_okq (⟨"PullThePlugModel", "becomes", "(IIII)I"⟩, 43) := ⟨⟨by decide +kernel, by decide +kernel⟩, lw_t5 (List.mem_of_getElem? (i := 32) rfl), lw_t6 (List.mem_of_getElem? (i := 100) rfl), lw_t6 (List.mem_of_getElem? (i := 101) rfl)⟩
theorem lw_p77 : lw_okq (⟨"PullThePlugModel", "refusesCell", "(IIII)I"⟩, 43) := ⟨⟨by decide +kernel, by decide +kernel⟩, lw_t5 (List.mem_of_getElem? (i := 32) rfl), lw_t6 (List.mem_of_getElem? (i := 104) rfl), lw_t6 (List.mem_of_getElem? (i := 105) rfl)⟩
theorem lw_p78 : lw_okq (⟨"PullThePlugModel", "readAct", "(I)V"⟩, 43) := ⟨⟨by decide +kernel, by decide +kernel⟩, lw_t5 (List.mem_of_getElem? (i := 32) rfl), lw_t6 (List.mem_of_getElem? (i := 116) rfl), lw_t6 (List.mem_of_getElem? (i := 117) rfl)⟩
theorem lw_p79 : lw_okq (⟨"PullThePlugModel", "act", "(III)Z"⟩, 43) := ⟨⟨by decide +kernel, by decide +kernel⟩, lw_t5 (List.mem_of_getElem? (i := 32) rfl), lw_t6 (List.mem_of_getElem? (i := 120) rfl), lw_t6 (List.mem_of_getElem? (i := 121) rfl)⟩
def lw_privs_5 : List (MethodName × Nat) := [(⟨"PullThePlugModel", "isLake", "(I)Z"⟩, 43), (⟨"PullThePlugModel", "lost", "()I"⟩, 43), (⟨"PullThePlugModel", "runOf", "([II)I"⟩, 43), (⟨"PullThePlugModel", "outOnes", "([I)I"⟩, 43), (⟨"PullThePlugModel", "sumOf", "([II)I"⟩, 43), (⟨"PullThePlugModel", "remember", "([I)V"⟩, 43), (⟨"PullThePlugModel", "goDays", "([II)V"⟩, 43), (⟨"PullThePlugModel", "goDay", "([I)V"⟩, 43), (⟨"PullThePlugModel", "tell", "(J)V"⟩, 43), (⟨"PullThePlugModel", "touches", "(II)I"⟩, 43), (⟨"PullThePlugModel", "refusesPlug", "(II)I"⟩, 43), (⟨"PullThePlugModel", "refusesComb", "(I)I"⟩, 43), (⟨"PullThePlugModel", "becomes", "(IIII)I"⟩, 43), (⟨"PullThePlugModel", "refusesCell", "(IIII)I"⟩, 43), (⟨"PullThePlugModel", "readAct", "(I)V"⟩, 43), (⟨"PullThePlugModel", "act", "(III)Z"⟩, 43)]
theorem lw_r5 : ∀ q ∈ lw_privs_5, lw_okq q := List.forall_mem_cons.mpr ⟨lw_p64, List.forall_mem_cons.mpr ⟨lw_p65, List.forall_mem_cons.mpr ⟨lw_p66, List.forall_mem_cons.mpr ⟨lw_p67, List.forall_mem_cons.mpr ⟨lw_p68, List.forall_mem_cons.mpr ⟨lw_p69, List.forall_mem_cons.mpr ⟨lw_p70, List.forall_mem_cons.mpr ⟨lw_p71, List.forall_mem_cons.mpr ⟨lw_p72, List.forall_mem_cons.mpr ⟨lw_p73, List.forall_mem_cons.mpr ⟨lw_p74, List.forall_mem_cons.mpr ⟨lw_p75, List.forall_mem_cons.mpr ⟨lw_p76, List.forall_mem_cons.mpr ⟨lw_p77, List.forall_mem_cons.mpr ⟨lw_p78, List.forall_mem_cons.mpr ⟨lw_p79, fun _ h => absurd h List.not_mem_nil⟩⟩⟩⟩⟩⟩⟩⟩⟩⟩⟩⟩⟩⟩⟩⟩
theorem lw_p80 : lw_okq (⟨"PullThePlugModel", "goThen", "(I)V"⟩, 43) := ⟨⟨by decide +kernel, by decide +kernel⟩, lw_t5 (List.mem_of_getElem? (i := 32) rfl), lw_t6 (List.mem_of_getElem? (i := 132) rfl), lw_t6 (List.mem_of_getElem? (i := 133) rfl)⟩
theorem lw_p81 : lw_okq (⟨"PullThePlugModel", "ownOf", "([II)I"⟩, 43) := ⟨⟨by decide +kernel, by decide +kernel⟩, lw_t5 (List.mem_of_getElem? (i := 32) rfl), lw_t6 (List.mem_of_getElem? (i := 155) rfl), lw_t6 (List.mem_of_getElem? (i := 156) rfl)⟩
theorem lw_p82 : lw_okq (⟨"PullThePlugModel", "levelOf", "([II)I"⟩, 43) := ⟨⟨by decide +kernel, by decide +kernel⟩, lw_t5 (List.mem_of_getElem? (i := 32) rfl), lw_t6 (List.mem_of_getElem? (i := 162) rfl), lw_t6 (List.mem_of_getElem? (i := 163) rfl)⟩
theorem lw_p83 : lw_okq (⟨"PullThePlugModel", "areTwo", "(II)Z"⟩, 43) := ⟨⟨by decide +kernel, by decide +kernel⟩, lw_t5 (List.mem_of_getElem? (i := 32) rfl), lw_t6 (List.mem_of_getElem? (i := 182) rfl), lw_t6 (List.mem_of_getElem? (i := 183) rfl)⟩
theorem lw_p84 : lw_okq (⟨"PullThePlugModel", "fewest", "(III)I"⟩, 43) := ⟨⟨by decide +kernel, by decide +kernel⟩, lw_t5 (List.mem_of_getElem? (i := 32) rfl), lw_t6 (List.mem_of_getElem? (i := 198) rfl), lw_t6 (List.mem_of_getElem? (i := 199) rfl)⟩
theorem lw_p85 : lw_okq (⟨"PullThePlugModel", "all", "()I"⟩, 43) := ⟨⟨by decide +kernel, by decide +kernel⟩, lw_t5 (List.mem_of_getElem? (i := 32) rfl), lw_t6 (List.mem_of_getElem? (i := 202) rfl), lw_t6 (List.mem_of_getElem? (i := 203) rfl)⟩
theorem lw_p86 : lw_okq (⟨"PullThePlugModel", "goTouched", "(II)V"⟩, 43) := ⟨⟨by decide +kernel, by decide +kernel⟩, lw_t5 (List.mem_of_getElem? (i := 32) rfl), lw_t6 (List.mem_of_getElem? (i := 206) rfl), lw_t6 (List.mem_of_getElem? (i := 207) rfl)⟩
theorem lw_p87 : lw_okq (⟨"PullThePlugModel", "dryOnes", "([I)I"⟩, 43) := ⟨⟨by decide +kernel, by decide +kernel⟩, lw_t5 (List.mem_of_getElem? (i := 32) rfl), lw_t6 (List.mem_of_getElem? (i := 210) rfl), lw_t6 (List.mem_of_getElem? (i := 211) rfl)⟩
theorem lw_p88 : lw_okq (⟨"PullThePlugModel", "isRight", "(II)Z"⟩, 43) := ⟨⟨by decide +kernel, by decide +kernel⟩, lw_t5 (List.mem_of_getElem? (i := 32) rfl), lw_t7 (List.mem_of_getElem? (i := 3) rfl), lw_t7 (List.mem_of_getElem? (i := 4) rfl)⟩
theorem lw_p89 : lw_okq (⟨"PullThePlugModel", "levelOfKings", "(I)I"⟩, 43) := ⟨⟨by decide +kernel, by decide +kernel⟩, lw_t5 (List.mem_of_getElem? (i := 32) rfl), lw_t7 (List.mem_of_getElem? (i := 22) rfl), lw_t7 (List.mem_of_getElem? (i := 23) rfl)⟩
theorem lw_p90 : lw_okq (⟨"PullThePlugModel", "canHave", "(III)Z"⟩, 43) := ⟨⟨by decide +kernel, by decide +kernel⟩, lw_t5 (List.mem_of_getElem? (i := 32) rfl), lw_t7 (List.mem_of_getElem? (i := 43) rfl), lw_t7 (List.mem_of_getElem? (i := 44) rfl)⟩
theorem lw_p91 : lw_okq (⟨"PullThePlugModel", "goDuck", "()V"⟩, 43) := ⟨⟨by decide +kernel, by decide +kernel⟩, lw_t5 (List.mem_of_getElem? (i := 32) rfl), lw_t7 (List.mem_of_getElem? (i := 51) rfl), lw_t7 (List.mem_of_getElem? (i := 52) rfl)⟩
theorem lw_p92 : lw_okq (⟨"PullThePlugModel", "areBeside", "(II)Z"⟩, 43) := ⟨⟨by decide +kernel, by decide +kernel⟩, lw_t5 (List.mem_of_getElem? (i := 32) rfl), lw_t7 (List.mem_of_getElem? (i := 55) rfl), lw_t7 (List.mem_of_getElem? (i := 56) rfl)⟩
theorem lw_p93 : lw_okq (⟨"PullThePlugModel", "levelIn12", "()I"⟩, 43) := ⟨⟨by decide +kernel, by decide +kernel⟩, lw_t5 (List.mem_of_getElem? (i := 32) rfl), lw_t7 (List.mem_of_getElem? (i := 81) rfl), lw_t7 (List.mem_of_getElem? (i := 82) rfl)⟩
theorem lw_p94 : lw_okq (⟨"PullThePlugModel", "draw", "(I)I"⟩, 43) := ⟨⟨by decide +kernel, by decide +kernel⟩, lw_t5 (List.mem_of_getElem? (i := 32) rfl), lw_t7 (List.mem_of_getElem? (i := 89) rfl), lw_t7 (List.mem_of_getElem? (i := 90) rfl)⟩
theorem lw_p95 : lw_okq (⟨"PullThePlugModel", "fullOnes", "()I"⟩, 43) := ⟨⟨by decide +kernel, by decide +kernel⟩, lw_t5 (List.mem_of_getElem? (i := 32) rfl), lw_t7 (List.mem_of_getElem? (i := 106) rfl), lw_t7 (List.mem_of_getElem? (i := 107) rfl)⟩
def lw_privs_6 : List (MethodName × Nat) := [(⟨"PullThePlugModel", "goThen", "(I)V"⟩, 43), (⟨"PullThePlugModel", "ownOf", "([II)I"⟩, 43), (⟨"PullThePlugModel", "levelOf", "([II)I"⟩, 43), (⟨"PullThePlugModel", "areTwo", "(II)Z"⟩, 43), (⟨"PullThePlugModel", "fewest", "(III)I"⟩, 43), (⟨"PullThePlugModel", "all", "()I"⟩, 43), (⟨"PullThePlugModel", "goTouched", "(II)V"⟩, 43), (⟨"PullThePlugModel", "dryOnes", "([I)I"⟩, 43), (⟨"PullThePlugModel", "isRight", "(II)Z"⟩, 43), (⟨"PullThePlugModel", "levelOfKings", "(I)I"⟩, 43), (⟨"PullThePlugModel", "canHave", "(III)Z"⟩, 43), (⟨"PullThePlugModel", "goDuck", "()V"⟩, 43), (⟨"PullThePlugModel", "areBeside", "(II)Z"⟩, 43), (⟨"PullThePlugModel", "levelIn12", "()I"⟩, 43), (⟨"PullThePlugModel", "draw", "(I)I"⟩, 43), (⟨"PullThePlugModel", "fullOnes", "()I"⟩, 43)]
theorem lw_r6 : ∀ q ∈ lw_privs_6, lw_okq q := List.forall_mem_cons.mpr ⟨lw_p80, List.forall_mem_cons.mpr ⟨lw_p81, List.forall_mem_cons.mpr ⟨lw_p82, List.forall_mem_cons.mpr ⟨lw_p83, List.forall_mem_cons.mpr ⟨lw_p84, List.forall_mem_cons.mpr ⟨lw_p85, List.forall_mem_cons.mpr ⟨lw_p86, List.forall_mem_cons.mpr ⟨lw_p87, List.forall_mem_cons.mpr ⟨lw_p88, List.forall_mem_cons.mpr ⟨lw_p89, List.forall_mem_cons.mpr ⟨lw_p90, List.forall_mem_cons.mpr ⟨lw_p91, List.forall_mem_cons.mpr ⟨lw_p92, List.forall_mem_cons.mpr ⟨lw_p93, List.forall_mem_cons.mpr ⟨lw_p94, List.forall_mem_cons.mpr ⟨lw_p95, fun _ h => absurd h List.not_mem_nil⟩⟩⟩⟩⟩⟩⟩⟩⟩⟩⟩⟩⟩⟩⟩⟩
def lw_privs : List (MethodName × Nat) := lw_privs_1 ++ (lw_privs_2 ++ (lw_privs_3 ++ (lw_privs_4 ++ (lw_privs_5 ++ (lw_privs_6)))))
def lw_tbl : List Cond := k2_sels lw_privs ++ tables_1
theorem lw_privs_ok : ∀ q ∈ lw_privs, lw_okq q := by
  show ∀ q ∈ lw_privs_1 ++ (lw_privs_2 ++ (lw_privs_3 ++ (lw_privs_4 ++ (lw_privs_5 ++ (lw_privs_6))))), lw_okq q
  exact List.forall_mem_append.mpr ⟨lw_r1, List.forall_mem_append.mpr ⟨lw_r2, List.forall_mem_append.mpr ⟨lw_r3, List.forall_mem_append.mpr ⟨lw_r4, List.forall_mem_append.mpr ⟨lw_r5, lw_r6⟩⟩⟩⟩⟩
-- ===== ONE list of words for every method: the tables' words that hold all through a run =====
def lw_all : List Cond := lw_tbl.filter goodWord
/-- a word of the tables by its place: claim/WORDS.tsv -/
theorem lw_w {w : Cond} (i : Nat) (h : lw_tbl[i]? = some w) (g : goodWord w = true) : w ∈ lw_all := List.mem_filter.mpr ⟨List.mem_of_getElem? h, g⟩
theorem lw_all_tbl {w : Cond} (h : w ∈ lw_all) : w ∈ lw_tbl := (List.mem_filter.mp h).1
theorem lw_self : GoodIn lw_all lw_all := fun w h => ⟨h, good_of_word (List.mem_filter.mp h).2⟩
/-- a class's field words, by their places -/
theorem lw_in (ws : List Cond) (ps : List Nat) (hp : ws = ps.filterMap (fun i => lw_tbl[i]?)) (hg : ws.all goodWord = true) : ∀ w ∈ ws, w ∈ lw_all := by
  intro w h
  have h1 := List.all_eq_true.mp hg w h
  rw [hp] at h
  obtain ⟨i, -, hi⟩ := List.mem_filterMap.mp h
  exact lw_w i hi h1
/-- the words of a contract for the method y with code b, L locals, answer r -/
abbrev ws_ (y : MethodName) (b : ByteArray) (L : Nat) (r : Option FieldType) : List Cond := Cond.code y b L r :: lw_all
theorem lw_meth {y : MethodName} {b : ByteArray} {L : Nat} {r : Option FieldType} (h : Cond.code y b L r ∈ lw_all) : GoodIn lw_all (ws_ y b L r) := by
  intro w hw
  rcases List.mem_cons.mp hw with e | e
  · rw [e]
    exact lw_self _ h
  · exact lw_self _ e
theorem lw_app {a c : List Cond} (ha : ∀ w ∈ a, w ∈ lw_all) (hc : GoodIn lw_all c) : GoodIn lw_all (a ++ c) := by
  intro w hw
  rcases List.mem_append.mp hw with e | e
  · exact lw_self w (ha w e)
  · exact hc w e
/-- what a call through an object asks: cwV n hts (lw_V ..) -/
theorem lw_V {own : String} {idx : Nat} {C : String} {y : MethodName} {b : ByteArray} {L : Nat} {r : Option FieldType} (h1 : Cond.methodLink own idx y ∈ lw_all) (h2 : Cond.instanceMethod y ∈ lw_all) (h3 : Cond.selects C y y ∈ lw_all) (h4 : Cond.initialized C ∈ lw_all) (h5 : Cond.code y b L r ∈ lw_all) : GoodIn lw_all (wsV own idx C y (ws_ y b L r)) := by
  refine lw_app ?_ (lw_meth h5)
  intro w hw
  simp only [List.mem_cons, List.not_mem_nil, or_false] at hw
  rcases hw with e | e | e | e
  · rw [e]; exact h1
  · rw [e]; exact h2
  · rw [e]; exact h3
  · rw [e]; exact h4
/-- what a static call asks: va_cwS n hts (lw_S ..) -/
theorem lw_S {own : String} {idx : Nat} {y : MethodName} {b : ByteArray} {L : Nat} {r : Option FieldType} (h1 : Cond.methodLink own idx y ∈ lw_all) (h2 : Cond.static y ∈ lw_all) (h3 : Cond.initialized y.cls ∈ lw_all) (h4 : Cond.code y b L r ∈ lw_all) : GoodIn lw_all (va_wsS own idx y (ws_ y b L r)) := by
  refine lw_app ?_ (lw_meth h4)
  intro w hw
  simp only [List.mem_cons, List.not_mem_nil, or_false] at hw
  rcases hw with e | e | e
  · rw [e]; exact h1
  · rw [e]; exact h2
  · rw [e]; exact h3
/-- the words of a contract for a method WITH HANDLERS (hh: its table) -/
abbrev wsW_ (y : MethodName) (b : ByteArray) (L : Nat) (r : Option FieldType) (hh : List (Nat × Nat × Nat × Nat)) : List Cond := Cond.codeWith y b L r hh :: lw_all
theorem lw_methW {y : MethodName} {b : ByteArray} {L : Nat} {r : Option FieldType} {hh : List (Nat × Nat × Nat × Nat)} (h : Cond.codeWith y b L r hh ∈ lw_all) : GoodIn lw_all (wsW_ y b L r hh) := by
  intro w hw
  rcases List.mem_cons.mp hw with e | e
  · rw [e]
    exact lw_self _ h
  · exact lw_self _ e
/-- any list of words by their places (lw_in), good -/
theorem lw_good {ws : List Cond} (h : ∀ w ∈ ws, w ∈ lw_all) : GoodIn lw_all ws := fun w hw => lw_self w (h w hw)
/-- what a call of a method with handlers asks: vx_cwVW n hts (lw_VW ..), vx_cwSW n hts (lw_SW ..) -/
theorem lw_VW {own : String} {idx : Nat} {C : String} {y : MethodName} {b : ByteArray} {L : Nat} {r : Option FieldType} {hh : List (Nat × Nat × Nat × Nat)} (h1 : Cond.methodLink own idx y ∈ lw_all) (h2 : Cond.instanceMethod y ∈ lw_all) (h3 : Cond.selects C y y ∈ lw_all) (h4 : Cond.initialized C ∈ lw_all) (h5 : Cond.codeWith y b L r hh ∈ lw_all) : GoodIn lw_all (wsV own idx C y (wsW_ y b L r hh)) := by
  refine lw_app ?_ (lw_methW h5)
  intro w hw
  simp only [List.mem_cons, List.not_mem_nil, or_false] at hw
  rcases hw with e | e | e | e
  · rw [e]; exact h1
  · rw [e]; exact h2
  · rw [e]; exact h3
  · rw [e]; exact h4
theorem lw_SW {own : String} {idx : Nat} {y : MethodName} {b : ByteArray} {L : Nat} {r : Option FieldType} {hh : List (Nat × Nat × Nat × Nat)} (h1 : Cond.methodLink own idx y ∈ lw_all) (h2 : Cond.static y ∈ lw_all) (h3 : Cond.initialized y.cls ∈ lw_all) (h4 : Cond.codeWith y b L r hh ∈ lw_all) : GoodIn lw_all (va_wsS own idx y (wsW_ y b L r hh)) := by
  refine lw_app ?_ (lw_methW h4)
  intro w hw
  simp only [List.mem_cons, List.not_mem_nil, or_false] at hw
  rcases hw with e | e | e
  · rw [e]; exact h1
  · rw [e]; exact h2
  · rw [e]; exact h3
/-- a word by its place in its run of the tables -/
theorem lw_at {r : List Cond} (hr : ∀ w ∈ r, w ∈ lw_tbl) {w : Cond} (i : Nat) (h : r[i]? = some w) : w ∈ lw_tbl := hr w (List.mem_of_getElem? h)
theorem lw_g {w : Cond} (h : w ∈ lw_tbl) (g : goodWord w = true) : w ∈ lw_all := List.mem_filter.mpr ⟨h, g⟩
theorem lw_ms : ∀ w ∈ k2_sels lw_privs, w ∈ lw_tbl := fun w h => show w ∈ k2_sels lw_privs ++ tables_1 from List.mem_append_left _ h
theorem lw_m1 : ∀ w ∈ tables_1_1, w ∈ lw_tbl := fun w h => show w ∈ k2_sels lw_privs ++ tables_1 from List.mem_append_right (k2_sels lw_privs) (show w ∈ tables_1 from List.mem_append_left _ h)
theorem lw_m2 : ∀ w ∈ tables_1_2, w ∈ lw_tbl := fun w h => show w ∈ k2_sels lw_privs ++ tables_1 from List.mem_append_right (k2_sels lw_privs) (show w ∈ tables_1 from List.mem_append_right _ (List.mem_append_left _ h))
theorem lw_m3 : ∀ w ∈ tables_1_3, w ∈ lw_tbl := fun w h => show w ∈ k2_sels lw_privs ++ tables_1 from List.mem_append_right (k2_sels lw_privs) (show w ∈ tables_1 from List.mem_append_right _ (List.mem_append_right _ (List.mem_append_left _ h)))
theorem lw_m4 : ∀ w ∈ tables_1_4, w ∈ lw_tbl := fun w h => show w ∈ k2_sels lw_privs ++ tables_1 from List.mem_append_right (k2_sels lw_privs) (show w ∈ tables_1 from List.mem_append_right _ (List.mem_append_right _ (List.mem_append_right _ (List.mem_append_left _ h))))
theorem lw_m5 : ∀ w ∈ tables_1_5, w ∈ lw_tbl := fun w h => show w ∈ k2_sels lw_privs ++ tables_1 from List.mem_append_right (k2_sels lw_privs) (show w ∈ tables_1 from List.mem_append_right _ (List.mem_append_right _ (List.mem_append_right _ (List.mem_append_right _ (List.mem_append_left _ h)))))
theorem lw_m6 : ∀ w ∈ tables_1_6, w ∈ lw_tbl := fun w h => show w ∈ k2_sels lw_privs ++ tables_1 from List.mem_append_right (k2_sels lw_privs) (show w ∈ tables_1 from List.mem_append_right _ (List.mem_append_right _ (List.mem_append_right _ (List.mem_append_right _ (List.mem_append_right _ (List.mem_append_left _ h))))))
theorem lw_m7 : ∀ w ∈ tables_1_7, w ∈ lw_tbl := fun w h => show w ∈ k2_sels lw_privs ++ tables_1 from List.mem_append_right (k2_sels lw_privs) (show w ∈ tables_1 from List.mem_append_right _ (List.mem_append_right _ (List.mem_append_right _ (List.mem_append_right _ (List.mem_append_right _ (List.mem_append_right _ h))))))
theorem qs0 : (Cond.selects "PullThePlug" ⟨"PullThePlug", "begins", "(I)I"⟩ ⟨"PullThePlug", "begins", "(I)I"⟩) ∈ lw_all := lw_g (lw_at lw_ms 0 rfl) rfl
theorem qs1 : (Cond.selects "PullThePlug" ⟨"PullThePlug", "readsLake", "()Z"⟩ ⟨"PullThePlug", "readsLake", "()Z"⟩) ∈ lw_all := lw_g (lw_at lw_ms 1 rfl) rfl
theorem qs2 : (Cond.selects "PullThePlug" ⟨"PullThePlug", "readsBrim", "()I"⟩ ⟨"PullThePlug", "readsBrim", "()I"⟩) ∈ lw_all := lw_g (lw_at lw_ms 2 rfl) rfl
theorem qs3 : (Cond.selects "PullThePlug" ⟨"PullThePlug", "number", "(I)I"⟩ ⟨"PullThePlug", "number", "(I)I"⟩) ∈ lw_all := lw_g (lw_at lw_ms 3 rfl) rfl
theorem qs4 : (Cond.selects "PullThePlug" ⟨"PullThePlug", "isDigit", "()Z"⟩ ⟨"PullThePlug", "isDigit", "()Z"⟩) ∈ lw_all := lw_g (lw_at lw_ms 4 rfl) rfl
theorem qs5 : (Cond.selects "PullThePlug" ⟨"PullThePlug", "takesOf", "(Ljava/lang/String;)I"⟩ ⟨"PullThePlug", "takesOf", "(Ljava/lang/String;)I"⟩) ∈ lw_all := lw_g (lw_at lw_ms 5 rfl) rfl
theorem qs6 : (Cond.selects "PullThePlug" ⟨"PullThePlug", "among", "(Ljava/lang/String;)I"⟩ ⟨"PullThePlug", "among", "(Ljava/lang/String;)I"⟩) ∈ lw_all := lw_g (lw_at lw_ms 6 rfl) rfl
theorem qs7 : (Cond.selects "PullThePlug" ⟨"PullThePlug", "takes", "(C)Z"⟩ ⟨"PullThePlug", "takes", "(C)Z"⟩) ∈ lw_all := lw_g (lw_at lw_ms 7 rfl) rfl
theorem qs8 : (Cond.selects "PullThePlug" ⟨"PullThePlug", "isAt", "(C)Z"⟩ ⟨"PullThePlug", "isAt", "(C)Z"⟩) ∈ lw_all := lw_g (lw_at lw_ms 8 rfl) rfl
theorem qs9 : (Cond.selects "PullThePlug" ⟨"PullThePlug", "faultOf", "(IZ)I"⟩ ⟨"PullThePlug", "faultOf", "(IZ)I"⟩) ∈ lw_all := lw_g (lw_at lw_ms 9 rfl) rfl
theorem qs10 : (Cond.selects "PullThePlug" ⟨"PullThePlug", "comes", "(I)V"⟩ ⟨"PullThePlug", "comes", "(I)V"⟩) ∈ lw_all := lw_g (lw_at lw_ms 10 rfl) rfl
theorem qs11 : (Cond.selects "PullThePlug" ⟨"PullThePlug", "readsRule", "()I"⟩ ⟨"PullThePlug", "readsRule", "()I"⟩) ∈ lw_all := lw_g (lw_at lw_ms 11 rfl) rfl
theorem qs12 : (Cond.selects "PullThePlug" ⟨"PullThePlug", "parses", "(I)LPullThePlug$Node;"⟩ ⟨"PullThePlug", "parses", "(I)LPullThePlug$Node;"⟩) ∈ lw_all := lw_g (lw_at lw_ms 12 rfl) rfl
theorem qs13 : (Cond.selects "PullThePlug" ⟨"PullThePlug", "readsThing", "()LPullThePlug$Node;"⟩ ⟨"PullThePlug", "readsThing", "()LPullThePlug$Node;"⟩) ∈ lw_all := lw_g (lw_at lw_ms 13 rfl) rfl
theorem qs14 : (Cond.selects "PullThePlug" ⟨"PullThePlug", "water", "(LPullThePlug$Water;)I"⟩ ⟨"PullThePlug", "water", "(LPullThePlug$Water;)I"⟩) ∈ lw_all := lw_g (lw_at lw_ms 14 rfl) rfl
theorem qs15 : (Cond.selects "PullThePlug" ⟨"PullThePlug", "all", "()I"⟩ ⟨"PullThePlug", "all", "()I"⟩) ∈ lw_all := lw_g (lw_at lw_ms 15 rfl) rfl
theorem qs16 : (Cond.selects "PullThePlug" ⟨"PullThePlug", "sumOf", "([II)I"⟩ ⟨"PullThePlug", "sumOf", "([II)I"⟩) ∈ lw_all := lw_g (lw_at lw_ms 16 rfl) rfl
theorem qs17 : (Cond.selects "PullThePlug" ⟨"PullThePlug", "putsBy", "(LPullThePlug$Water;)V"⟩ ⟨"PullThePlug", "putsBy", "(LPullThePlug$Water;)V"⟩) ∈ lw_all := lw_g (lw_at lw_ms 17 rfl) rfl
theorem qs18 : (Cond.selects "PullThePlug" ⟨"PullThePlug", "daysGo", "(LPullThePlug$Water;I)V"⟩ ⟨"PullThePlug", "daysGo", "(LPullThePlug$Water;I)V"⟩) ∈ lw_all := lw_g (lw_at lw_ms 18 rfl) rfl
theorem qs19 : (Cond.selects "PullThePlug" ⟨"PullThePlug", "dayGoes", "(LPullThePlug$Water;)V"⟩ ⟨"PullThePlug", "dayGoes", "(LPullThePlug$Water;)V"⟩) ∈ lw_all := lw_g (lw_at lw_ms 19 rfl) rfl
theorem qs20 : (Cond.selects "PullThePlug" ⟨"PullThePlug", "leaksDay", "(LPullThePlug$Water;II)V"⟩ ⟨"PullThePlug", "leaksDay", "(LPullThePlug$Water;II)V"⟩) ∈ lw_all := lw_g (lw_at lw_ms 20 rfl) rfl
theorem qs21 : (Cond.selects "PullThePlug" ⟨"PullThePlug", "run", "(LPullThePlug$Water;I)I"⟩ ⟨"PullThePlug", "run", "(LPullThePlug$Water;I)I"⟩) ∈ lw_all := lw_g (lw_at lw_ms 21 rfl) rfl
theorem qs22 : (Cond.selects "PullThePlug" ⟨"PullThePlug", "tells", "(J)V"⟩ ⟨"PullThePlug", "tells", "(J)V"⟩) ∈ lw_all := lw_g (lw_at lw_ms 22 rfl) rfl
theorem qs23 : (Cond.selects "PullThePlug" ⟨"PullThePlug", "touches", "(LPullThePlug$Water;IZ)I"⟩ ⟨"PullThePlug", "touches", "(LPullThePlug$Water;IZ)I"⟩) ∈ lw_all := lw_g (lw_at lw_ms 23 rfl) rfl
theorem qs24 : (Cond.selects "PullThePlug" ⟨"PullThePlug", "isLake", "(I)Z"⟩ ⟨"PullThePlug", "isLake", "(I)Z"⟩) ∈ lw_all := lw_g (lw_at lw_ms 24 rfl) rfl
theorem qs25 : (Cond.selects "PullThePlug" ⟨"PullThePlug", "counts", "(I)I"⟩ ⟨"PullThePlug", "counts", "(I)I"⟩) ∈ lw_all := lw_g (lw_at lw_ms 25 rfl) rfl
theorem qs26 : (Cond.selects "PullThePlug" ⟨"PullThePlug", "combsOne", "(LPullThePlug$Water;I)I"⟩ ⟨"PullThePlug", "combsOne", "(LPullThePlug$Water;I)I"⟩) ∈ lw_all := lw_g (lw_at lw_ms 26 rfl) rfl
theorem qs27 : (Cond.selects "PullThePlug" ⟨"PullThePlug", "tapsOne", "(LPullThePlug$Water;II)I"⟩ ⟨"PullThePlug", "tapsOne", "(LPullThePlug$Water;II)I"⟩) ∈ lw_all := lw_g (lw_at lw_ms 27 rfl) rfl
theorem qs28 : (Cond.selects "PullThePlug" ⟨"PullThePlug", "givesOne", "(LPullThePlug$Water;II)I"⟩ ⟨"PullThePlug", "givesOne", "(LPullThePlug$Water;II)I"⟩) ∈ lw_all := lw_g (lw_at lw_ms 28 rfl) rfl
theorem qs29 : (Cond.selects "PullThePlug" ⟨"PullThePlug", "readsAct", "()Z"⟩ ⟨"PullThePlug", "readsAct", "()Z"⟩) ∈ lw_all := lw_g (lw_at lw_ms 29 rfl) rfl
theorem qs30 : (Cond.selects "PullThePlug" ⟨"PullThePlug", "does", "(I)Z"⟩ ⟨"PullThePlug", "does", "(I)Z"⟩) ∈ lw_all := lw_g (lw_at lw_ms 30 rfl) rfl
theorem qs31 : (Cond.selects "PullThePlug" ⟨"PullThePlug", "daysTill", "(II)I"⟩ ⟨"PullThePlug", "daysTill", "(II)I"⟩) ∈ lw_all := lw_g (lw_at lw_ms 31 rfl) rfl
theorem qs32 : (Cond.selects "PullThePlug" ⟨"PullThePlug", "lakesOf", "(I)I"⟩ ⟨"PullThePlug", "lakesOf", "(I)I"⟩) ∈ lw_all := lw_g (lw_at lw_ms 32 rfl) rfl
theorem qs33 : (Cond.selects "PullThePlug" ⟨"PullThePlug", "dryOnes", "(LPullThePlug$Water;)I"⟩ ⟨"PullThePlug", "dryOnes", "(LPullThePlug$Water;)I"⟩) ∈ lw_all := lw_g (lw_at lw_ms 33 rfl) rfl
theorem qs34 : (Cond.selects "PullThePlug" ⟨"PullThePlug", "touchedGo", "(II)V"⟩ ⟨"PullThePlug", "touchedGo", "(II)V"⟩) ∈ lw_all := lw_g (lw_at lw_ms 34 rfl) rfl
theorem qs35 : (Cond.selects "PullThePlug" ⟨"PullThePlug", "tellsFewest", "(I)I"⟩ ⟨"PullThePlug", "tellsFewest", "(I)I"⟩) ∈ lw_all := lw_g (lw_at lw_ms 35 rfl) rfl
theorem qs36 : (Cond.selects "PullThePlug" ⟨"PullThePlug", "areLakes", "(I)Z"⟩ ⟨"PullThePlug", "areLakes", "(I)Z"⟩) ∈ lw_all := lw_g (lw_at lw_ms 36 rfl) rfl
theorem qs37 : (Cond.selects "PullThePlug" ⟨"PullThePlug", "laysLeaks", "()I"⟩ ⟨"PullThePlug", "laysLeaks", "()I"⟩) ∈ lw_all := lw_g (lw_at lw_ms 37 rfl) rfl
theorem qs38 : (Cond.selects "PullThePlug" ⟨"PullThePlug", "laysLevels", "(I)V"⟩ ⟨"PullThePlug", "laysLevels", "(I)V"⟩) ∈ lw_all := lw_g (lw_at lw_ms 38 rfl) rfl
theorem qs39 : (Cond.selects "PullThePlug" ⟨"PullThePlug", "mostAlike", "(II)I"⟩ ⟨"PullThePlug", "mostAlike", "(II)I"⟩) ∈ lw_all := lw_g (lw_at lw_ms 39 rfl) rfl
theorem qs40 : (Cond.selects "PullThePlug" ⟨"PullThePlug", "isBare", "(II)Z"⟩ ⟨"PullThePlug", "isBare", "(II)Z"⟩) ∈ lw_all := lw_g (lw_at lw_ms 40 rfl) rfl
theorem qs41 : (Cond.selects "PullThePlug" ⟨"PullThePlug", "levelOf", "(I)I"⟩ ⟨"PullThePlug", "levelOf", "(I)I"⟩) ∈ lw_all := lw_g (lw_at lw_ms 41 rfl) rfl
theorem qs42 : (Cond.selects "PullThePlug" ⟨"PullThePlug", "givesFrom", "(IIII)V"⟩ ⟨"PullThePlug", "givesFrom", "(IIII)V"⟩) ∈ lw_all := lw_g (lw_at lw_ms 42 rfl) rfl
theorem qs43 : (Cond.selects "PullThePlug" ⟨"PullThePlug", "duckGoes", "()V"⟩ ⟨"PullThePlug", "duckGoes", "()V"⟩) ∈ lw_all := lw_g (lw_at lw_ms 43 rfl) rfl
theorem qs44 : (Cond.selects "PullThePlug" ⟨"PullThePlug", "areBeside", "(II)Z"⟩ ⟨"PullThePlug", "areBeside", "(II)Z"⟩) ∈ lw_all := lw_g (lw_at lw_ms 44 rfl) rfl
theorem qs45 : (Cond.selects "PullThePlug" ⟨"PullThePlug", "draws", "(I)I"⟩ ⟨"PullThePlug", "draws", "(I)I"⟩) ∈ lw_all := lw_g (lw_at lw_ms 45 rfl) rfl
theorem qs46 : (Cond.selects "PullThePlug" ⟨"PullThePlug", "fullOnes", "()I"⟩ ⟨"PullThePlug", "fullOnes", "()I"⟩) ∈ lw_all := lw_g (lw_at lw_ms 46 rfl) rfl
theorem qs47 : (Cond.selects "java/lang/Throwable" ⟨"java/lang/Throwable", "fillInStackTrace", "(I)Ljava/lang/Throwable;"⟩ ⟨"java/lang/Throwable", "fillInStackTrace", "(I)Ljava/lang/Throwable;"⟩) ∈ lw_all := lw_g (lw_at lw_ms 47 rfl) rfl
theorem qs48 : (Cond.selects "PullThePlugModel" ⟨"PullThePlugModel", "beginText", "(I)V"⟩ ⟨"PullThePlugModel", "beginText", "(I)V"⟩) ∈ lw_all := lw_g (lw_at lw_ms 48 rfl) rfl
theorem qs49 : (Cond.selects "PullThePlugModel" ⟨"PullThePlugModel", "begin", "([BII)V"⟩ ⟨"PullThePlugModel", "begin", "([BII)V"⟩) ∈ lw_all := lw_g (lw_at lw_ms 49 rfl) rfl
theorem qs50 : (Cond.selects "PullThePlugModel" ⟨"PullThePlugModel", "fine", "()Z"⟩ ⟨"PullThePlugModel", "fine", "()Z"⟩) ∈ lw_all := lw_g (lw_at lw_ms 50 rfl) rfl
theorem qs51 : (Cond.selects "PullThePlugModel" ⟨"PullThePlugModel", "fault", "(I)V"⟩ ⟨"PullThePlugModel", "fault", "(I)V"⟩) ∈ lw_all := lw_g (lw_at lw_ms 51 rfl) rfl
theorem qs52 : (Cond.selects "PullThePlugModel" ⟨"PullThePlugModel", "readLake", "(I)V"⟩ ⟨"PullThePlugModel", "readLake", "(I)V"⟩) ∈ lw_all := lw_g (lw_at lw_ms 52 rfl) rfl
theorem qs53 : (Cond.selects "PullThePlugModel" ⟨"PullThePlugModel", "oneOf", "(CI)I"⟩ ⟨"PullThePlugModel", "oneOf", "(CI)I"⟩) ∈ lw_all := lw_g (lw_at lw_ms 53 rfl) rfl
theorem qs54 : (Cond.selects "PullThePlugModel" ⟨"PullThePlugModel", "here", "()I"⟩ ⟨"PullThePlugModel", "here", "()I"⟩) ∈ lw_all := lw_g (lw_at lw_ms 54 rfl) rfl
theorem qs55 : (Cond.selects "PullThePlugModel" ⟨"PullThePlugModel", "passes", "(C)Z"⟩ ⟨"PullThePlugModel", "passes", "(C)Z"⟩) ∈ lw_all := lw_g (lw_at lw_ms 55 rfl) rfl
theorem qs56 : (Cond.selects "PullThePlugModel" ⟨"PullThePlugModel", "wasRight", "()Z"⟩ ⟨"PullThePlugModel", "wasRight", "()Z"⟩) ∈ lw_all := lw_g (lw_at lw_ms 56 rfl) rfl
theorem qs57 : (Cond.selects "PullThePlugModel" ⟨"PullThePlugModel", "readRule", "()Z"⟩ ⟨"PullThePlugModel", "readRule", "()Z"⟩) ∈ lw_all := lw_g (lw_at lw_ms 57 rfl) rfl
theorem qs58 : (Cond.selects "PullThePlugModel" ⟨"PullThePlugModel", "held", "(I)I"⟩ ⟨"PullThePlugModel", "held", "(I)I"⟩) ∈ lw_all := lw_g (lw_at lw_ms 58 rfl) rfl
theorem qs59 : (Cond.selects "PullThePlugModel" ⟨"PullThePlugModel", "sum", "(I)I"⟩ ⟨"PullThePlugModel", "sum", "(I)I"⟩) ∈ lw_all := lw_g (lw_at lw_ms 59 rfl) rfl
theorem qs60 : (Cond.selects "PullThePlugModel" ⟨"PullThePlugModel", "product", "(I)I"⟩ ⟨"PullThePlugModel", "product", "(I)I"⟩) ∈ lw_all := lw_g (lw_at lw_ms 60 rfl) rfl
theorem qs61 : (Cond.selects "PullThePlugModel" ⟨"PullThePlugModel", "thing", "(I)I"⟩ ⟨"PullThePlugModel", "thing", "(I)I"⟩) ∈ lw_all := lw_g (lw_at lw_ms 61 rfl) rfl
theorem qs62 : (Cond.selects "PullThePlugModel" ⟨"PullThePlugModel", "need", "(C)V"⟩ ⟨"PullThePlugModel", "need", "(C)V"⟩) ∈ lw_all := lw_g (lw_at lw_ms 62 rfl) rfl
theorem qs63 : (Cond.selects "PullThePlugModel" ⟨"PullThePlugModel", "number", "(I)I"⟩ ⟨"PullThePlugModel", "number", "(I)I"⟩) ∈ lw_all := lw_g (lw_at lw_ms 63 rfl) rfl
theorem qs64 : (Cond.selects "PullThePlugModel" ⟨"PullThePlugModel", "isLake", "(I)Z"⟩ ⟨"PullThePlugModel", "isLake", "(I)Z"⟩) ∈ lw_all := lw_g (lw_at lw_ms 64 rfl) rfl
theorem qs65 : (Cond.selects "PullThePlugModel" ⟨"PullThePlugModel", "lost", "()I"⟩ ⟨"PullThePlugModel", "lost", "()I"⟩) ∈ lw_all := lw_g (lw_at lw_ms 65 rfl) rfl
theorem qs66 : (Cond.selects "PullThePlugModel" ⟨"PullThePlugModel", "runOf", "([II)I"⟩ ⟨"PullThePlugModel", "runOf", "([II)I"⟩) ∈ lw_all := lw_g (lw_at lw_ms 66 rfl) rfl
theorem qs67 : (Cond.selects "PullThePlugModel" ⟨"PullThePlugModel", "outOnes", "([I)I"⟩ ⟨"PullThePlugModel", "outOnes", "([I)I"⟩) ∈ lw_all := lw_g (lw_at lw_ms 67 rfl) rfl
theorem qs68 : (Cond.selects "PullThePlugModel" ⟨"PullThePlugModel", "sumOf", "([II)I"⟩ ⟨"PullThePlugModel", "sumOf", "([II)I"⟩) ∈ lw_all := lw_g (lw_at lw_ms 68 rfl) rfl
theorem qs69 : (Cond.selects "PullThePlugModel" ⟨"PullThePlugModel", "remember", "([I)V"⟩ ⟨"PullThePlugModel", "remember", "([I)V"⟩) ∈ lw_all := lw_g (lw_at lw_ms 69 rfl) rfl
theorem qs70 : (Cond.selects "PullThePlugModel" ⟨"PullThePlugModel", "goDays", "([II)V"⟩ ⟨"PullThePlugModel", "goDays", "([II)V"⟩) ∈ lw_all := lw_g (lw_at lw_ms 70 rfl) rfl
theorem qs71 : (Cond.selects "PullThePlugModel" ⟨"PullThePlugModel", "goDay", "([I)V"⟩ ⟨"PullThePlugModel", "goDay", "([I)V"⟩) ∈ lw_all := lw_g (lw_at lw_ms 71 rfl) rfl
theorem qs72 : (Cond.selects "PullThePlugModel" ⟨"PullThePlugModel", "tell", "(J)V"⟩ ⟨"PullThePlugModel", "tell", "(J)V"⟩) ∈ lw_all := lw_g (lw_at lw_ms 72 rfl) rfl
theorem qs73 : (Cond.selects "PullThePlugModel" ⟨"PullThePlugModel", "touches", "(II)I"⟩ ⟨"PullThePlugModel", "touches", "(II)I"⟩) ∈ lw_all := lw_g (lw_at lw_ms 73 rfl) rfl
theorem qs74 : (Cond.selects "PullThePlugModel" ⟨"PullThePlugModel", "refusesPlug", "(II)I"⟩ ⟨"PullThePlugModel", "refusesPlug", "(II)I"⟩) ∈ lw_all := lw_g (lw_at lw_ms 74 rfl) rfl
theorem qs75 : (Cond.selects "PullThePlugModel" ⟨"PullThePlugModel", "refusesComb", "(I)I"⟩ ⟨"PullThePlugModel", "refusesComb", "(I)I"⟩) ∈ lw_all := lw_g (lw_at lw_ms 75 rfl) rfl
theorem qs76 : (Cond.selects "PullThePlugModel" ⟨"PullThePlugModel", "becomes", "(IIII)I"⟩ ⟨"PullThePlugModel", "becomes", "(IIII)I"⟩) ∈ lw_all := lw_g (lw_at lw_ms 76 rfl) rfl
theorem qs77 : (Cond.selects "PullThePlugModel" ⟨"PullThePlugModel", "refusesCell", "(IIII)I"⟩ ⟨"PullThePlugModel", "refusesCell", "(IIII)I"⟩) ∈ lw_all := lw_g (lw_at lw_ms 77 rfl) rfl
theorem qs78 : (Cond.selects "PullThePlugModel" ⟨"PullThePlugModel", "readAct", "(I)V"⟩ ⟨"PullThePlugModel", "readAct", "(I)V"⟩) ∈ lw_all := lw_g (lw_at lw_ms 78 rfl) rfl
theorem qs79 : (Cond.selects "PullThePlugModel" ⟨"PullThePlugModel", "act", "(III)Z"⟩ ⟨"PullThePlugModel", "act", "(III)Z"⟩) ∈ lw_all := lw_g (lw_at lw_ms 79 rfl) rfl
theorem qs80 : (Cond.selects "PullThePlugModel" ⟨"PullThePlugModel", "goThen", "(I)V"⟩ ⟨"PullThePlugModel", "goThen", "(I)V"⟩) ∈ lw_all := lw_g (lw_at lw_ms 80 rfl) rfl
theorem qs81 : (Cond.selects "PullThePlugModel" ⟨"PullThePlugModel", "ownOf", "([II)I"⟩ ⟨"PullThePlugModel", "ownOf", "([II)I"⟩) ∈ lw_all := lw_g (lw_at lw_ms 81 rfl) rfl
theorem qs82 : (Cond.selects "PullThePlugModel" ⟨"PullThePlugModel", "levelOf", "([II)I"⟩ ⟨"PullThePlugModel", "levelOf", "([II)I"⟩) ∈ lw_all := lw_g (lw_at lw_ms 82 rfl) rfl
theorem qs83 : (Cond.selects "PullThePlugModel" ⟨"PullThePlugModel", "areTwo", "(II)Z"⟩ ⟨"PullThePlugModel", "areTwo", "(II)Z"⟩) ∈ lw_all := lw_g (lw_at lw_ms 83 rfl) rfl
theorem qs84 : (Cond.selects "PullThePlugModel" ⟨"PullThePlugModel", "fewest", "(III)I"⟩ ⟨"PullThePlugModel", "fewest", "(III)I"⟩) ∈ lw_all := lw_g (lw_at lw_ms 84 rfl) rfl
theorem qs85 : (Cond.selects "PullThePlugModel" ⟨"PullThePlugModel", "all", "()I"⟩ ⟨"PullThePlugModel", "all", "()I"⟩) ∈ lw_all := lw_g (lw_at lw_ms 85 rfl) rfl
theorem qs86 : (Cond.selects "PullThePlugModel" ⟨"PullThePlugModel", "goTouched", "(II)V"⟩ ⟨"PullThePlugModel", "goTouched", "(II)V"⟩) ∈ lw_all := lw_g (lw_at lw_ms 86 rfl) rfl
theorem qs87 : (Cond.selects "PullThePlugModel" ⟨"PullThePlugModel", "dryOnes", "([I)I"⟩ ⟨"PullThePlugModel", "dryOnes", "([I)I"⟩) ∈ lw_all := lw_g (lw_at lw_ms 87 rfl) rfl
theorem qs88 : (Cond.selects "PullThePlugModel" ⟨"PullThePlugModel", "isRight", "(II)Z"⟩ ⟨"PullThePlugModel", "isRight", "(II)Z"⟩) ∈ lw_all := lw_g (lw_at lw_ms 88 rfl) rfl
theorem qs89 : (Cond.selects "PullThePlugModel" ⟨"PullThePlugModel", "levelOfKings", "(I)I"⟩ ⟨"PullThePlugModel", "levelOfKings", "(I)I"⟩) ∈ lw_all := lw_g (lw_at lw_ms 89 rfl) rfl
theorem qs90 : (Cond.selects "PullThePlugModel" ⟨"PullThePlugModel", "canHave", "(III)Z"⟩ ⟨"PullThePlugModel", "canHave", "(III)Z"⟩) ∈ lw_all := lw_g (lw_at lw_ms 90 rfl) rfl
theorem qs91 : (Cond.selects "PullThePlugModel" ⟨"PullThePlugModel", "goDuck", "()V"⟩ ⟨"PullThePlugModel", "goDuck", "()V"⟩) ∈ lw_all := lw_g (lw_at lw_ms 91 rfl) rfl
theorem qs92 : (Cond.selects "PullThePlugModel" ⟨"PullThePlugModel", "areBeside", "(II)Z"⟩ ⟨"PullThePlugModel", "areBeside", "(II)Z"⟩) ∈ lw_all := lw_g (lw_at lw_ms 92 rfl) rfl
theorem qs93 : (Cond.selects "PullThePlugModel" ⟨"PullThePlugModel", "levelIn12", "()I"⟩ ⟨"PullThePlugModel", "levelIn12", "()I"⟩) ∈ lw_all := lw_g (lw_at lw_ms 93 rfl) rfl
theorem qs94 : (Cond.selects "PullThePlugModel" ⟨"PullThePlugModel", "draw", "(I)I"⟩ ⟨"PullThePlugModel", "draw", "(I)I"⟩) ∈ lw_all := lw_g (lw_at lw_ms 94 rfl) rfl
theorem qs95 : (Cond.selects "PullThePlugModel" ⟨"PullThePlugModel", "fullOnes", "()I"⟩ ⟨"PullThePlugModel", "fullOnes", "()I"⟩) ∈ lw_all := lw_g (lw_at lw_ms 95 rfl) rfl
-- ===== end of PART A; then your names; then what follows =====
