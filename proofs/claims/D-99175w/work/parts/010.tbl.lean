-- ===== PART A: goes FIRST, ahead of the names: the tables' words, and 'selects' of the private methods out of them =====
/-- a private method of a class that the tables say can be made, by its rows of tables_1 -/
def lw_okq (q : MethodName × Nat) : Prop := (q.1.cls ≠ "java/lang/invoke/MethodHandle" ∧ q.1.cls ≠ "java/lang/invoke/VarHandle") ∧ Cond.instantiable q.1.cls q.2 ∈ tables_1 ∧ Cond.privateMethod q.1 ∈ tables_1 ∧ Cond.instanceMethod q.1 ∈ tables_1
set_option maxRecDepth 100000
theorem lw_t1 {w : Cond} (h : w ∈ tables_1_1) : w ∈ tables_1 := List.mem_append_left _ h
theorem lw_t2 {w : Cond} (h : w ∈ tables_1_2) : w ∈ tables_1 := List.mem_append_right _ (List.mem_append_left _ h)
theorem lw_t3 {w : Cond} (h : w ∈ tables_1_3) : w ∈ tables_1 := List.mem_append_right _ (List.mem_append_right _ (List.mem_append_left _ h))
theorem lw_t4 {w : Cond} (h : w ∈ tables_1_4) : w ∈ tables_1 := List.mem_append_right _ (List.mem_append_right _ (List.mem_append_right _ (List.mem_append_left _ h)))
theorem lw_t5 {w : Cond} (h : w ∈ tables_1_5) : w ∈ tables_1 := List.mem_append_right _ (List.mem_append_right _ (List.mem_append_right _ (List.mem_append_right _ (List.mem_append_left _ h))))
theorem lw_t6 {w : Cond} (h : w ∈ tables_1_6) : w ∈ tables_1 := List.mem_append_right _ (List.mem_append_right _ (List.mem_append_right _ (List.mem_append_right _ (List.mem_append_right _ (List.mem_append_left _ h)))))
theorem lw_t7 {w : Cond} (h : w ∈ tables_1_7) : w ∈ tables_1 := List.mem_append_right _ (List.mem_append_right _ (List.mem_append_right _ (List.mem_append_right _ (List.mem_append_right _ (List.mem_append_right _ h)))))
theorem lw_p0 : lw_okq (⟨"RockingHorse", "begins", "(I)I"⟩, 53) := ⟨⟨by decide +kernel, by decide +kernel⟩, lw_t1 (List.mem_of_getElem? (i := 22) rfl), lw_t2 (List.mem_of_getElem? (i := 8) rfl), lw_t2 (List.mem_of_getElem? (i := 9) rfl)⟩
theorem lw_p1 : lw_okq (⟨"RockingHorse", "readsRider", "()Z"⟩, 53) := ⟨⟨by decide +kernel, by decide +kernel⟩, lw_t1 (List.mem_of_getElem? (i := 22) rfl), lw_t2 (List.mem_of_getElem? (i := 15) rfl), lw_t2 (List.mem_of_getElem? (i := 16) rfl)⟩
theorem lw_p2 : lw_okq (⟨"RockingHorse", "takesOf", "(Ljava/lang/String;)I"⟩, 53) := ⟨⟨by decide +kernel, by decide +kernel⟩, lw_t1 (List.mem_of_getElem? (i := 22) rfl), lw_t2 (List.mem_of_getElem? (i := 20) rfl), lw_t2 (List.mem_of_getElem? (i := 21) rfl)⟩
theorem lw_p3 : lw_okq (⟨"RockingHorse", "among", "(Ljava/lang/String;)I"⟩, 53) := ⟨⟨by decide +kernel, by decide +kernel⟩, lw_t1 (List.mem_of_getElem? (i := 22) rfl), lw_t2 (List.mem_of_getElem? (i := 24) rfl), lw_t2 (List.mem_of_getElem? (i := 25) rfl)⟩
theorem lw_p4 : lw_okq (⟨"RockingHorse", "takes", "(C)Z"⟩, 53) := ⟨⟨by decide +kernel, by decide +kernel⟩, lw_t1 (List.mem_of_getElem? (i := 22) rfl), lw_t2 (List.mem_of_getElem? (i := 114) rfl), lw_t2 (List.mem_of_getElem? (i := 115) rfl)⟩
theorem lw_p5 : lw_okq (⟨"RockingHorse", "isAt", "(C)Z"⟩, 53) := ⟨⟨by decide +kernel, by decide +kernel⟩, lw_t1 (List.mem_of_getElem? (i := 22) rfl), lw_t2 (List.mem_of_getElem? (i := 118) rfl), lw_t2 (List.mem_of_getElem? (i := 119) rfl)⟩
theorem lw_p6 : lw_okq (⟨"RockingHorse", "faultOf", "(IZ)I"⟩, 53) := ⟨⟨by decide +kernel, by decide +kernel⟩, lw_t1 (List.mem_of_getElem? (i := 22) rfl), lw_t2 (List.mem_of_getElem? (i := 122) rfl), lw_t2 (List.mem_of_getElem? (i := 123) rfl)⟩
theorem lw_p7 : lw_okq (⟨"RockingHorse", "readsRule", "()I"⟩, 53) := ⟨⟨by decide +kernel, by decide +kernel⟩, lw_t1 (List.mem_of_getElem? (i := 22) rfl), lw_t2 (List.mem_of_getElem? (i := 131) rfl), lw_t2 (List.mem_of_getElem? (i := 132) rfl)⟩
theorem lw_p8 : lw_okq (⟨"RockingHorse", "reads", "(I)LRockingHorse$Node;"⟩, 53) := ⟨⟨by decide +kernel, by decide +kernel⟩, lw_t1 (List.mem_of_getElem? (i := 22) rfl), lw_t2 (List.mem_of_getElem? (i := 135) rfl), lw_t2 (List.mem_of_getElem? (i := 136) rfl)⟩
theorem lw_p9 : lw_okq (⟨"RockingHorse", "readsThing", "()LRockingHorse$Node;"⟩, 53) := ⟨⟨by decide +kernel, by decide +kernel⟩, lw_t1 (List.mem_of_getElem? (i := 22) rfl), lw_t2 (List.mem_of_getElem? (i := 139) rfl), lw_t2 (List.mem_of_getElem? (i := 140) rfl)⟩
theorem lw_p10 : lw_okq (⟨"RockingHorse", "isDigit", "()Z"⟩, 53) := ⟨⟨by decide +kernel, by decide +kernel⟩, lw_t1 (List.mem_of_getElem? (i := 22) rfl), lw_t2 (List.mem_of_getElem? (i := 162) rfl), lw_t2 (List.mem_of_getElem? (i := 163) rfl)⟩
theorem lw_p11 : lw_okq (⟨"RockingHorse", "number", "(I)I"⟩, 53) := ⟨⟨by decide +kernel, by decide +kernel⟩, lw_t1 (List.mem_of_getElem? (i := 22) rfl), lw_t2 (List.mem_of_getElem? (i := 170) rfl), lw_t2 (List.mem_of_getElem? (i := 171) rfl)⟩
theorem lw_p12 : lw_okq (⟨"RockingHorse", "isRider", "(I)Z"⟩, 53) := ⟨⟨by decide +kernel, by decide +kernel⟩, lw_t1 (List.mem_of_getElem? (i := 22) rfl), lw_t2 (List.mem_of_getElem? (i := 231) rfl), lw_t2 (List.mem_of_getElem? (i := 232) rfl)⟩
theorem lw_p13 : lw_okq (⟨"RockingHorse", "hardOf", "(LRockingHorse$Horse;II)I"⟩, 53) := ⟨⟨by decide +kernel, by decide +kernel⟩, lw_t1 (List.mem_of_getElem? (i := 22) rfl), lw_t2 (List.mem_of_getElem? (i := 236) rfl), lw_t2 (List.mem_of_getElem? (i := 237) rfl)⟩
theorem lw_p14 : lw_okq (⟨"RockingHorse", "sumOf", "([I)I"⟩, 53) := ⟨⟨by decide +kernel, by decide +kernel⟩, lw_t1 (List.mem_of_getElem? (i := 22) rfl), lw_t3 (List.mem_of_getElem? (i := 35) rfl), lw_t3 (List.mem_of_getElem? (i := 36) rfl)⟩
theorem lw_p15 : lw_okq (⟨"RockingHorse", "putsBy", "(LRockingHorse$Horse;)V"⟩, 53) := ⟨⟨by decide +kernel, by decide +kernel⟩, lw_t1 (List.mem_of_getElem? (i := 22) rfl), lw_t3 (List.mem_of_getElem? (i := 54) rfl), lw_t3 (List.mem_of_getElem? (i := 55) rfl)⟩
def lw_privs_1 : List (MethodName × Nat) := [(⟨"RockingHorse", "begins", "(I)I"⟩, 53), (⟨"RockingHorse", "readsRider", "()Z"⟩, 53), (⟨"RockingHorse", "takesOf", "(Ljava/lang/String;)I"⟩, 53), (⟨"RockingHorse", "among", "(Ljava/lang/String;)I"⟩, 53), (⟨"RockingHorse", "takes", "(C)Z"⟩, 53), (⟨"RockingHorse", "isAt", "(C)Z"⟩, 53), (⟨"RockingHorse", "faultOf", "(IZ)I"⟩, 53), (⟨"RockingHorse", "readsRule", "()I"⟩, 53), (⟨"RockingHorse", "reads", "(I)LRockingHorse$Node;"⟩, 53), (⟨"RockingHorse", "readsThing", "()LRockingHorse$Node;"⟩, 53), (⟨"RockingHorse", "isDigit", "()Z"⟩, 53), (⟨"RockingHorse", "number", "(I)I"⟩, 53), (⟨"RockingHorse", "isRider", "(I)Z"⟩, 53), (⟨"RockingHorse", "hardOf", "(LRockingHorse$Horse;II)I"⟩, 53), (⟨"RockingHorse", "sumOf", "([I)I"⟩, 53), (⟨"RockingHorse", "putsBy", "(LRockingHorse$Horse;)V"⟩, 53)]
theorem lw_r1 : ∀ q ∈ lw_privs_1, lw_okq q := List.forall_mem_cons.mpr ⟨lw_p0, List.forall_mem_cons.mpr ⟨lw_p1, List.forall_mem_cons.mpr ⟨lw_p2, List.forall_mem_cons.mpr ⟨lw_p3, List.forall_mem_cons.mpr ⟨lw_p4, List.forall_mem_cons.mpr ⟨lw_p5, List.forall_mem_cons.mpr ⟨lw_p6, List.forall_mem_cons.mpr ⟨lw_p7, List.forall_mem_cons.mpr ⟨lw_p8, List.forall_mem_cons.mpr ⟨lw_p9, List.forall_mem_cons.mpr ⟨lw_p10, List.forall_mem_cons.mpr ⟨lw_p11, List.forall_mem_cons.mpr ⟨lw_p12, List.forall_mem_cons.mpr ⟨lw_p13, List.forall_mem_cons.mpr ⟨lw_p14, List.forall_mem_cons.mpr ⟨lw_p15, fun _ h => absurd h List.not_mem_nil⟩⟩⟩⟩⟩⟩⟩⟩⟩⟩⟩⟩⟩⟩⟩⟩
theorem lw_p16 : lw_okq (⟨"RockingHorse", "gives", "(LRockingHorse$Horse;II)Z"⟩, 53) := ⟨⟨by decide +kernel, by decide +kernel⟩, lw_t1 (List.mem_of_getElem? (i := 22) rfl), lw_t3 (List.mem_of_getElem? (i := 62) rfl), lw_t3 (List.mem_of_getElem? (i := 63) rfl)⟩
theorem lw_p17 : lw_okq (⟨"RockingHorse", "falls", "(LRockingHorse$Horse;I)I"⟩, 53) := ⟨⟨by decide +kernel, by decide +kernel⟩, lw_t1 (List.mem_of_getElem? (i := 22) rfl), lw_t3 (List.mem_of_getElem? (i := 70) rfl), lw_t3 (List.mem_of_getElem? (i := 71) rfl)⟩
theorem lw_p18 : lw_okq (⟨"RockingHorse", "nightsGo", "(LRockingHorse$Horse;I)V"⟩, 53) := ⟨⟨by decide +kernel, by decide +kernel⟩, lw_t1 (List.mem_of_getElem? (i := 22) rfl), lw_t3 (List.mem_of_getElem? (i := 80) rfl), lw_t3 (List.mem_of_getElem? (i := 81) rfl)⟩
theorem lw_p19 : lw_okq (⟨"RockingHorse", "nightGoes", "(LRockingHorse$Horse;)V"⟩, 53) := ⟨⟨by decide +kernel, by decide +kernel⟩, lw_t1 (List.mem_of_getElem? (i := 22) rfl), lw_t3 (List.mem_of_getElem? (i := 84) rfl), lw_t3 (List.mem_of_getElem? (i := 85) rfl)⟩
theorem lw_p20 : lw_okq (⟨"RockingHorse", "rides", "(LRockingHorse$Horse;)V"⟩, 53) := ⟨⟨by decide +kernel, by decide +kernel⟩, lw_t1 (List.mem_of_getElem? (i := 22) rfl), lw_t3 (List.mem_of_getElem? (i := 88) rfl), lw_t3 (List.mem_of_getElem? (i := 89) rfl)⟩
theorem lw_p21 : lw_okq (⟨"RockingHorse", "tells", "(J)V"⟩, 53) := ⟨⟨by decide +kernel, by decide +kernel⟩, lw_t1 (List.mem_of_getElem? (i := 22) rfl), lw_t3 (List.mem_of_getElem? (i := 98) rfl), lw_t3 (List.mem_of_getElem? (i := 99) rfl)⟩
theorem lw_p22 : lw_okq (⟨"RockingHorse", "readsAct", "()Z"⟩, 53) := ⟨⟨by decide +kernel, by decide +kernel⟩, lw_t1 (List.mem_of_getElem? (i := 22) rfl), lw_t3 (List.mem_of_getElem? (i := 106) rfl), lw_t3 (List.mem_of_getElem? (i := 107) rfl)⟩
theorem lw_p23 : lw_okq (⟨"RockingHorse", "does", "(I)Z"⟩, 53) := ⟨⟨by decide +kernel, by decide +kernel⟩, lw_t1 (List.mem_of_getElem? (i := 22) rfl), lw_t3 (List.mem_of_getElem? (i := 111) rfl), lw_t3 (List.mem_of_getElem? (i := 112) rfl)⟩
theorem lw_p24 : lw_okq (⟨"RockingHorse", "exchanges", "(LRockingHorse$Horse;II)Z"⟩, 53) := ⟨⟨by decide +kernel, by decide +kernel⟩, lw_t1 (List.mem_of_getElem? (i := 22) rfl), lw_t3 (List.mem_of_getElem? (i := 115) rfl), lw_t3 (List.mem_of_getElem? (i := 116) rfl)⟩
theorem lw_p25 : lw_okq (⟨"RockingHorse", "isPair", "(II)Z"⟩, 53) := ⟨⟨by decide +kernel, by decide +kernel⟩, lw_t1 (List.mem_of_getElem? (i := 22) rfl), lw_t3 (List.mem_of_getElem? (i := 119) rfl), lw_t3 (List.mem_of_getElem? (i := 120) rfl)⟩
theorem lw_p26 : lw_okq (⟨"RockingHorse", "easiestBut", "(I)I"⟩, 53) := ⟨⟨by decide +kernel, by decide +kernel⟩, lw_t1 (List.mem_of_getElem? (i := 22) rfl), lw_t3 (List.mem_of_getElem? (i := 152) rfl), lw_t3 (List.mem_of_getElem? (i := 153) rfl)⟩
theorem lw_p27 : lw_okq (⟨"RockingHorse", "opens", "(I)V"⟩, 53) := ⟨⟨by decide +kernel, by decide +kernel⟩, lw_t1 (List.mem_of_getElem? (i := 22) rfl), lw_t3 (List.mem_of_getElem? (i := 156) rfl), lw_t3 (List.mem_of_getElem? (i := 157) rfl)⟩
theorem lw_p28 : lw_okq (⟨"RockingHorse", "wholeNight", "()I"⟩, 53) := ⟨⟨by decide +kernel, by decide +kernel⟩, lw_t1 (List.mem_of_getElem? (i := 22) rfl), lw_t3 (List.mem_of_getElem? (i := 160) rfl), lw_t3 (List.mem_of_getElem? (i := 161) rfl)⟩
theorem lw_p29 : lw_okq (⟨"RockingHorse", "pricesHard", "()V"⟩, 53) := ⟨⟨by decide +kernel, by decide +kernel⟩, lw_t1 (List.mem_of_getElem? (i := 22) rfl), lw_t3 (List.mem_of_getElem? (i := 164) rfl), lw_t3 (List.mem_of_getElem? (i := 165) rfl)⟩
theorem lw_p30 : lw_okq (⟨"RockingHorse", "laysLeast", "()I"⟩, 53) := ⟨⟨by decide +kernel, by decide +kernel⟩, lw_t1 (List.mem_of_getElem? (i := 22) rfl), lw_t3 (List.mem_of_getElem? (i := 168) rfl), lw_t3 (List.mem_of_getElem? (i := 169) rfl)⟩
theorem lw_p31 : lw_okq (⟨"RockingHorse", "pricesSets", "(I)V"⟩, 53) := ⟨⟨by decide +kernel, by decide +kernel⟩, lw_t1 (List.mem_of_getElem? (i := 22) rfl), lw_t3 (List.mem_of_getElem? (i := 172) rfl), lw_t3 (List.mem_of_getElem? (i := 173) rfl)⟩
def lw_privs_2 : List (MethodName × Nat) := [(⟨"RockingHorse", "gives", "(LRockingHorse$Horse;II)Z"⟩, 53), (⟨"RockingHorse", "falls", "(LRockingHorse$Horse;I)I"⟩, 53), (⟨"RockingHorse", "nightsGo", "(LRockingHorse$Horse;I)V"⟩, 53), (⟨"RockingHorse", "nightGoes", "(LRockingHorse$Horse;)V"⟩, 53), (⟨"RockingHorse", "rides", "(LRockingHorse$Horse;)V"⟩, 53), (⟨"RockingHorse", "tells", "(J)V"⟩, 53), (⟨"RockingHorse", "readsAct", "()Z"⟩, 53), (⟨"RockingHorse", "does", "(I)Z"⟩, 53), (⟨"RockingHorse", "exchanges", "(LRockingHorse$Horse;II)Z"⟩, 53), (⟨"RockingHorse", "isPair", "(II)Z"⟩, 53), (⟨"RockingHorse", "easiestBut", "(I)I"⟩, 53), (⟨"RockingHorse", "opens", "(I)V"⟩, 53), (⟨"RockingHorse", "wholeNight", "()I"⟩, 53), (⟨"RockingHorse", "pricesHard", "()V"⟩, 53), (⟨"RockingHorse", "laysLeast", "()I"⟩, 53), (⟨"RockingHorse", "pricesSets", "(I)V"⟩, 53)]
theorem lw_r2 : ∀ q ∈ lw_privs_2, lw_okq q := List.forall_mem_cons.mpr ⟨lw_p16, List.forall_mem_cons.mpr ⟨lw_p17, List.forall_mem_cons.mpr ⟨lw_p18, List.forall_mem_cons.mpr ⟨lw_p19, List.forall_mem_cons.mpr ⟨lw_p20, List.forall_mem_cons.mpr ⟨lw_p21, List.forall_mem_cons.mpr ⟨lw_p22, List.forall_mem_cons.mpr ⟨lw_p23, List.forall_mem_cons.mpr ⟨lw_p24, List.forall_mem_cons.mpr ⟨lw_p25, List.forall_mem_cons.mpr ⟨lw_p26, List.forall_mem_cons.mpr ⟨lw_p27, List.forall_mem_cons.mpr ⟨lw_p28, List.forall_mem_cons.mpr ⟨lw_p29, List.forall_mem_cons.mpr ⟨lw_p30, List.forall_mem_cons.mpr ⟨lw_p31, fun _ h => absurd h List.not_mem_nil⟩⟩⟩⟩⟩⟩⟩⟩⟩⟩⟩⟩⟩⟩⟩⟩
theorem lw_p32 : lw_okq (⟨"RockingHorse", "laysTurn", "(I)V"⟩, 53) := ⟨⟨by decide +kernel, by decide +kernel⟩, lw_t1 (List.mem_of_getElem? (i := 22) rfl), lw_t3 (List.mem_of_getElem? (i := 176) rfl), lw_t3 (List.mem_of_getElem? (i := 177) rfl)⟩
theorem lw_p33 : lw_okq (⟨"RockingHorse", "fixes", "(II)V"⟩, 53) := ⟨⟨by decide +kernel, by decide +kernel⟩, lw_t1 (List.mem_of_getElem? (i := 22) rfl), lw_t3 (List.mem_of_getElem? (i := 181) rfl), lw_t3 (List.mem_of_getElem? (i := 182) rfl)⟩
theorem lw_p34 : lw_okq (⟨"RockingHorse", "tellsTurn", "()V"⟩, 53) := ⟨⟨by decide +kernel, by decide +kernel⟩, lw_t1 (List.mem_of_getElem? (i := 22) rfl), lw_t3 (List.mem_of_getElem? (i := 185) rfl), lw_t3 (List.mem_of_getElem? (i := 186) rfl)⟩
theorem lw_p35 : lw_okq (⟨"RockingHorse", "all", "()I"⟩, 53) := ⟨⟨by decide +kernel, by decide +kernel⟩, lw_t1 (List.mem_of_getElem? (i := 22) rfl), lw_t3 (List.mem_of_getElem? (i := 197) rfl), lw_t3 (List.mem_of_getElem? (i := 198) rfl)⟩
theorem lw_p36 : lw_okq (⟨"RockingHorse", "lacking", "(I)I"⟩, 53) := ⟨⟨by decide +kernel, by decide +kernel⟩, lw_t1 (List.mem_of_getElem? (i := 22) rfl), lw_t3 (List.mem_of_getElem? (i := 201) rfl), lw_t3 (List.mem_of_getElem? (i := 202) rfl)⟩
theorem lw_p37 : lw_okq (⟨"RockingHorse", "well", "()I"⟩, 53) := ⟨⟨by decide +kernel, by decide +kernel⟩, lw_t1 (List.mem_of_getElem? (i := 22) rfl), lw_t3 (List.mem_of_getElem? (i := 209) rfl), lw_t3 (List.mem_of_getElem? (i := 210) rfl)⟩
theorem lw_p38 : lw_okq (⟨"RockingHorse", "tellsWays", "()I"⟩, 53) := ⟨⟨by decide +kernel, by decide +kernel⟩, lw_t1 (List.mem_of_getElem? (i := 22) rfl), lw_t3 (List.mem_of_getElem? (i := 217) rfl), lw_t3 (List.mem_of_getElem? (i := 218) rfl)⟩
theorem lw_p39 : lw_okq (⟨"RockingHorse", "laysWays", "()J"⟩, 53) := ⟨⟨by decide +kernel, by decide +kernel⟩, lw_t1 (List.mem_of_getElem? (i := 22) rfl), lw_t3 (List.mem_of_getElem? (i := 221) rfl), lw_t3 (List.mem_of_getElem? (i := 222) rfl)⟩
theorem lw_p40 : lw_okq (⟨"RockingHorse", "manyWho", "(I)I"⟩, 53) := ⟨⟨by decide +kernel, by decide +kernel⟩, lw_t1 (List.mem_of_getElem? (i := 22) rfl), lw_t4 (List.mem_of_getElem? (i := 22) rfl), lw_t4 (List.mem_of_getElem? (i := 23) rfl)⟩
theorem lw_p41 : lw_okq (⟨"RockingHorse", "smoothsFrom", "(II)V"⟩, 53) := ⟨⟨by decide +kernel, by decide +kernel⟩, lw_t1 (List.mem_of_getElem? (i := 22) rfl), lw_t4 (List.mem_of_getElem? (i := 34) rfl), lw_t4 (List.mem_of_getElem? (i := 35) rfl)⟩
theorem lw_p42 : lw_okq (⟨"RockingHorse", "opensFound", "()V"⟩, 53) := ⟨⟨by decide +kernel, by decide +kernel⟩, lw_t1 (List.mem_of_getElem? (i := 22) rfl), lw_t4 (List.mem_of_getElem? (i := 56) rfl), lw_t4 (List.mem_of_getElem? (i := 57) rfl)⟩
theorem lw_p43 : lw_okq (⟨"RockingHorse", "isHour", "(I)Z"⟩, 53) := ⟨⟨by decide +kernel, by decide +kernel⟩, lw_t1 (List.mem_of_getElem? (i := 22) rfl), lw_t4 (List.mem_of_getElem? (i := 60) rfl), lw_t4 (List.mem_of_getElem? (i := 61) rfl)⟩
theorem lw_p44 : lw_okq (⟨"RockingHorse", "fitsIf", "(II)J"⟩, 53) := ⟨⟨by decide +kernel, by decide +kernel⟩, lw_t1 (List.mem_of_getElem? (i := 22) rfl), lw_t4 (List.mem_of_getElem? (i := 68) rfl), lw_t4 (List.mem_of_getElem? (i := 69) rfl)⟩
theorem lw_p45 : lw_okq (⟨"RockingHorse", "tellsFraction", "(JJ)V"⟩, 53) := ⟨⟨by decide +kernel, by decide +kernel⟩, lw_t1 (List.mem_of_getElem? (i := 22) rfl), lw_t4 (List.mem_of_getElem? (i := 72) rfl), lw_t4 (List.mem_of_getElem? (i := 73) rfl)⟩
theorem lw_p46 : lw_okq (⟨"RockingHorse", "heldBy", "(II)J"⟩, 53) := ⟨⟨by decide +kernel, by decide +kernel⟩, lw_t1 (List.mem_of_getElem? (i := 22) rfl), lw_t4 (List.mem_of_getElem? (i := 95) rfl), lw_t4 (List.mem_of_getElem? (i := 96) rfl)⟩
theorem lw_p47 : lw_okq (⟨"RockingHorse", "hardOfRota", "()I"⟩, 53) := ⟨⟨by decide +kernel, by decide +kernel⟩, lw_t1 (List.mem_of_getElem? (i := 22) rfl), lw_t4 (List.mem_of_getElem? (i := 117) rfl), lw_t4 (List.mem_of_getElem? (i := 118) rfl)⟩
def lw_privs_3 : List (MethodName × Nat) := [(⟨"RockingHorse", "laysTurn", "(I)V"⟩, 53), (⟨"RockingHorse", "fixes", "(II)V"⟩, 53), (⟨"RockingHorse", "tellsTurn", "()V"⟩, 53), (⟨"RockingHorse", "all", "()I"⟩, 53), (⟨"RockingHorse", "lacking", "(I)I"⟩, 53), (⟨"RockingHorse", "well", "()I"⟩, 53), (⟨"RockingHorse", "tellsWays", "()I"⟩, 53), (⟨"RockingHorse", "laysWays", "()J"⟩, 53), (⟨"RockingHorse", "manyWho", "(I)I"⟩, 53), (⟨"RockingHorse", "smoothsFrom", "(II)V"⟩, 53), (⟨"RockingHorse", "opensFound", "()V"⟩, 53), (⟨"RockingHorse", "isHour", "(I)Z"⟩, 53), (⟨"RockingHorse", "fitsIf", "(II)J"⟩, 53), (⟨"RockingHorse", "tellsFraction", "(JJ)V"⟩, 53), (⟨"RockingHorse", "heldBy", "(II)J"⟩, 53), (⟨"RockingHorse", "hardOfRota", "()I"⟩, 53)]
theorem lw_r3 : ∀ q ∈ lw_privs_3, lw_okq q := List.forall_mem_cons.mpr ⟨lw_p32, List.forall_mem_cons.mpr ⟨lw_p33, List.forall_mem_cons.mpr ⟨lw_p34, List.forall_mem_cons.mpr ⟨lw_p35, List.forall_mem_cons.mpr ⟨lw_p36, List.forall_mem_cons.mpr ⟨lw_p37, List.forall_mem_cons.mpr ⟨lw_p38, List.forall_mem_cons.mpr ⟨lw_p39, List.forall_mem_cons.mpr ⟨lw_p40, List.forall_mem_cons.mpr ⟨lw_p41, List.forall_mem_cons.mpr ⟨lw_p42, List.forall_mem_cons.mpr ⟨lw_p43, List.forall_mem_cons.mpr ⟨lw_p44, List.forall_mem_cons.mpr ⟨lw_p45, List.forall_mem_cons.mpr ⟨lw_p46, List.forall_mem_cons.mpr ⟨lw_p47, fun _ h => absurd h List.not_mem_nil⟩⟩⟩⟩⟩⟩⟩⟩⟩⟩⟩⟩⟩⟩⟩⟩
theorem lw_p48 : lw_okq (⟨"RockingHorse", "draws", "(I)I"⟩, 53) := ⟨⟨by decide +kernel, by decide +kernel⟩, lw_t1 (List.mem_of_getElem? (i := 22) rfl), lw_t4 (List.mem_of_getElem? (i := 125) rfl), lw_t4 (List.mem_of_getElem? (i := 126) rfl)⟩
theorem lw_p49 : lw_okq (⟨"java/lang/Throwable", "fillInStackTrace", "(I)Ljava/lang/Throwable;"⟩, 6) := ⟨⟨by decide +kernel, by decide +kernel⟩, lw_t4 (List.mem_of_getElem? (i := 188) rfl), lw_t4 (List.mem_of_getElem? (i := 186) rfl), lw_t4 (List.mem_of_getElem? (i := 187) rfl)⟩
theorem lw_p50 : lw_okq (⟨"RockingHorseModel", "beginText", "(I)V"⟩, 51) := ⟨⟨by decide +kernel, by decide +kernel⟩, lw_t4 (List.mem_of_getElem? (i := 224) rfl), lw_t5 (List.mem_of_getElem? (i := 165) rfl), lw_t5 (List.mem_of_getElem? (i := 166) rfl)⟩
theorem lw_p51 : lw_okq (⟨"RockingHorseModel", "begin", "([BII)V"⟩, 51) := ⟨⟨by decide +kernel, by decide +kernel⟩, lw_t4 (List.mem_of_getElem? (i := 224) rfl), lw_t5 (List.mem_of_getElem? (i := 169) rfl), lw_t5 (List.mem_of_getElem? (i := 170) rfl)⟩
theorem lw_p52 : lw_okq (⟨"RockingHorseModel", "fine", "()Z"⟩, 51) := ⟨⟨by decide +kernel, by decide +kernel⟩, lw_t4 (List.mem_of_getElem? (i := 224) rfl), lw_t5 (List.mem_of_getElem? (i := 173) rfl), lw_t5 (List.mem_of_getElem? (i := 174) rfl)⟩
theorem lw_p53 : lw_okq (⟨"RockingHorseModel", "fault", "(I)V"⟩, 51) := ⟨⟨by decide +kernel, by decide +kernel⟩, lw_t4 (List.mem_of_getElem? (i := 224) rfl), lw_t5 (List.mem_of_getElem? (i := 177) rfl), lw_t5 (List.mem_of_getElem? (i := 178) rfl)⟩
theorem lw_p54 : lw_okq (⟨"RockingHorseModel", "readMan", "(I)V"⟩, 51) := ⟨⟨by decide +kernel, by decide +kernel⟩, lw_t4 (List.mem_of_getElem? (i := 224) rfl), lw_t5 (List.mem_of_getElem? (i := 181) rfl), lw_t5 (List.mem_of_getElem? (i := 182) rfl)⟩
theorem lw_p55 : lw_okq (⟨"RockingHorseModel", "oneOf", "(CI)I"⟩, 51) := ⟨⟨by decide +kernel, by decide +kernel⟩, lw_t4 (List.mem_of_getElem? (i := 224) rfl), lw_t5 (List.mem_of_getElem? (i := 185) rfl), lw_t5 (List.mem_of_getElem? (i := 186) rfl)⟩
theorem lw_p56 : lw_okq (⟨"RockingHorseModel", "here", "()I"⟩, 51) := ⟨⟨by decide +kernel, by decide +kernel⟩, lw_t4 (List.mem_of_getElem? (i := 224) rfl), lw_t5 (List.mem_of_getElem? (i := 189) rfl), lw_t5 (List.mem_of_getElem? (i := 190) rfl)⟩
theorem lw_p57 : lw_okq (⟨"RockingHorseModel", "passes", "(C)Z"⟩, 51) := ⟨⟨by decide +kernel, by decide +kernel⟩, lw_t4 (List.mem_of_getElem? (i := 224) rfl), lw_t5 (List.mem_of_getElem? (i := 193) rfl), lw_t5 (List.mem_of_getElem? (i := 194) rfl)⟩
theorem lw_p58 : lw_okq (⟨"RockingHorseModel", "wasRight", "()Z"⟩, 51) := ⟨⟨by decide +kernel, by decide +kernel⟩, lw_t4 (List.mem_of_getElem? (i := 224) rfl), lw_t5 (List.mem_of_getElem? (i := 197) rfl), lw_t5 (List.mem_of_getElem? (i := 198) rfl)⟩
theorem lw_p59 : lw_okq (⟨"RockingHorseModel", "readRule", "()Z"⟩, 51) := ⟨⟨by decide +kernel, by decide +kernel⟩, lw_t4 (List.mem_of_getElem? (i := 224) rfl), lw_t5 (List.mem_of_getElem? (i := 205) rfl), lw_t5 (List.mem_of_getElem? (i := 206) rfl)⟩
theorem lw_p60 : lw_okq (⟨"RockingHorseModel", "heldBy", "(I)I"⟩, 51) := ⟨⟨by decide +kernel, by decide +kernel⟩, lw_t4 (List.mem_of_getElem? (i := 224) rfl), lw_t5 (List.mem_of_getElem? (i := 209) rfl), lw_t5 (List.mem_of_getElem? (i := 210) rfl)⟩
theorem lw_p61 : lw_okq (⟨"RockingHorseModel", "sum", "(I)I"⟩, 51) := ⟨⟨by decide +kernel, by decide +kernel⟩, lw_t4 (List.mem_of_getElem? (i := 224) rfl), lw_t5 (List.mem_of_getElem? (i := 213) rfl), lw_t5 (List.mem_of_getElem? (i := 214) rfl)⟩
theorem lw_p62 : lw_okq (⟨"RockingHorseModel", "product", "(I)I"⟩, 51) := ⟨⟨by decide +kernel, by decide +kernel⟩, lw_t4 (List.mem_of_getElem? (i := 224) rfl), lw_t5 (List.mem_of_getElem? (i := 217) rfl), lw_t5 (List.mem_of_getElem? (i := 218) rfl)⟩
theorem lw_p63 : lw_okq (⟨"RockingHorseModel", "thing", "(I)I"⟩, 51) := ⟨⟨by decide +kernel, by decide +kernel⟩, lw_t4 (List.mem_of_getElem? (i := 224) rfl), lw_t5 (List.mem_of_getElem? (i := 221) rfl), lw_t5 (List.mem_of_getElem? (i := 222) rfl)⟩
def lw_privs_4 : List (MethodName × Nat) := [(⟨"RockingHorse", "draws", "(I)I"⟩, 53), (⟨"java/lang/Throwable", "fillInStackTrace", "(I)Ljava/lang/Throwable;"⟩, 6), (⟨"RockingHorseModel", "beginText", "(I)V"⟩, 51), (⟨"RockingHorseModel", "begin", "([BII)V"⟩, 51), (⟨"RockingHorseModel", "fine", "()Z"⟩, 51), (⟨"RockingHorseModel", "fault", "(I)V"⟩, 51), (⟨"RockingHorseModel", "readMan", "(I)V"⟩, 51), (⟨"RockingHorseModel", "oneOf", "(CI)I"⟩, 51), (⟨"RockingHorseModel", "here", "()I"⟩, 51), (⟨"RockingHorseModel", "passes", "(C)Z"⟩, 51), (⟨"RockingHorseModel", "wasRight", "()Z"⟩, 51), (⟨"RockingHorseModel", "readRule", "()Z"⟩, 51), (⟨"RockingHorseModel", "heldBy", "(I)I"⟩, 51), (⟨"RockingHorseModel", "sum", "(I)I"⟩, 51), (⟨"RockingHorseModel", "product", "(I)I"⟩, 51), (⟨"RockingHorseModel", "thing", "(I)I"⟩, 51)]
theorem lw_r4 : ∀ q ∈ lw_privs_4, lw_okq q := List.forall_mem_cons.mpr ⟨lw_p48, List.forall_mem_cons.mpr ⟨lw_p49, List.forall_mem_cons.mpr ⟨lw_p50, List.forall_mem_cons.mpr ⟨lw_p51, List.forall_mem_cons.mpr ⟨lw_p52, List.forall_mem_cons.mpr ⟨lw_p53, List.forall_mem_cons.mpr ⟨lw_p54, List.forall_mem_cons.mpr ⟨lw_p55, List.forall_mem_cons.mpr ⟨lw_p56, List.forall_mem_cons.mpr ⟨lw_p57, List.forall_mem_cons.mpr ⟨lw_p58, List.forall_mem_cons.mpr ⟨lw_p59, List.forall_mem_cons.mpr ⟨lw_p60, List.forall_mem_cons.mpr ⟨lw_p61, List.forall_mem_cons.mpr ⟨lw_p62, List.forall_mem_cons.mpr ⟨lw_p63, fun _ h => absurd h List.not_mem_nil⟩⟩⟩⟩⟩⟩⟩⟩⟩⟩⟩⟩⟩⟩⟩⟩
theorem lw_p64 : lw_okq (⟨"RockingHorseModel", "need", "(C)V"⟩, 51) := ⟨⟨by decide +kernel, by decide +kernel⟩, lw_t4 (List.mem_of_getElem? (i := 224) rfl), lw_t5 (List.mem_of_getElem? (i := 225) rfl), lw_t5 (List.mem_of_getElem? (i := 226) rfl)⟩
theorem lw_p65 : lw_okq (⟨"RockingHorseModel", "number", "(I)I"⟩, 51) := ⟨⟨by decide +kernel, by decide +kernel⟩, lw_t4 (List.mem_of_getElem? (i := 224) rfl), lw_t5 (List.mem_of_getElem? (i := 229) rfl), lw_t5 (List.mem_of_getElem? (i := 230) rfl)⟩
theorem lw_p66 : lw_okq (⟨"RockingHorseModel", "isMan", "(I)Z"⟩, 51) := ⟨⟨by decide +kernel, by decide +kernel⟩, lw_t4 (List.mem_of_getElem? (i := 224) rfl), lw_t6 (List.mem_of_getElem? (i := 0) rfl), lw_t6 (List.mem_of_getElem? (i := 1) rfl)⟩
theorem lw_p67 : lw_okq (⟨"RockingHorseModel", "lost", "()I"⟩, 51) := ⟨⟨by decide +kernel, by decide +kernel⟩, lw_t4 (List.mem_of_getElem? (i := 224) rfl), lw_t6 (List.mem_of_getElem? (i := 4) rfl), lw_t6 (List.mem_of_getElem? (i := 5) rfl)⟩
theorem lw_p68 : lw_okq (⟨"RockingHorseModel", "hoursOf", "([II)I"⟩, 51) := ⟨⟨by decide +kernel, by decide +kernel⟩, lw_t4 (List.mem_of_getElem? (i := 224) rfl), lw_t6 (List.mem_of_getElem? (i := 8) rfl), lw_t6 (List.mem_of_getElem? (i := 9) rfl)⟩
theorem lw_p69 : lw_okq (⟨"RockingHorseModel", "hardOf", "([III)I"⟩, 51) := ⟨⟨by decide +kernel, by decide +kernel⟩, lw_t4 (List.mem_of_getElem? (i := 224) rfl), lw_t6 (List.mem_of_getElem? (i := 19) rfl), lw_t6 (List.mem_of_getElem? (i := 20) rfl)⟩
theorem lw_p70 : lw_okq (⟨"RockingHorseModel", "remember", "([I)V"⟩, 51) := ⟨⟨by decide +kernel, by decide +kernel⟩, lw_t4 (List.mem_of_getElem? (i := 224) rfl), lw_t6 (List.mem_of_getElem? (i := 38) rfl), lw_t6 (List.mem_of_getElem? (i := 39) rfl)⟩
theorem lw_p71 : lw_okq (⟨"RockingHorseModel", "isGift", "(II)Z"⟩, 51) := ⟨⟨by decide +kernel, by decide +kernel⟩, lw_t4 (List.mem_of_getElem? (i := 224) rfl), lw_t6 (List.mem_of_getElem? (i := 49) rfl), lw_t6 (List.mem_of_getElem? (i := 50) rfl)⟩
theorem lw_p72 : lw_okq (⟨"RockingHorseModel", "illBits", "([I)I"⟩, 51) := ⟨⟨by decide +kernel, by decide +kernel⟩, lw_t4 (List.mem_of_getElem? (i := 224) rfl), lw_t6 (List.mem_of_getElem? (i := 57) rfl), lw_t6 (List.mem_of_getElem? (i := 58) rfl)⟩
theorem lw_p73 : lw_okq (⟨"RockingHorseModel", "goNights", "([II)V"⟩, 51) := ⟨⟨by decide +kernel, by decide +kernel⟩, lw_t4 (List.mem_of_getElem? (i := 224) rfl), lw_t6 (List.mem_of_getElem? (i := 65) rfl), lw_t6 (List.mem_of_getElem? (i := 66) rfl)⟩
theorem lw_p74 : lw_okq (⟨"RockingHorseModel", "goNight", "([I)V"⟩, 51) := ⟨⟨by decide +kernel, by decide +kernel⟩, lw_t4 (List.mem_of_getElem? (i := 224) rfl), lw_t6 (List.mem_of_getElem? (i := 69) rfl), lw_t6 (List.mem_of_getElem? (i := 70) rfl)⟩
theorem lw_p75 : lw_okq (⟨"RockingHorseModel", "tell", "(J)V"⟩, 51) := ⟨⟨by decide +kernel, by decide +kernel⟩, lw_t4 (List.mem_of_getElem? (i := 224) rfl), lw_t6 (List.mem_of_getElem? (i := 77) rfl), lw_t6 (List.mem_of_getElem? (i := 78) rfl)⟩
theorem lw_p76 : lw_okq (⟨"RockingHorseModel", "tired", "([I)I"⟩, 51) := ⟨⟨by decide +kernel, by decide +kernel⟩, lw_t4 (List.mem_of_getElem? (i := 224) rfl), lw_t6 (List.mem_of_getElem? (i := 81) rfl), lw_t6 (List.mem_of_getElem? (i := 82) rfl)⟩
theorem lw_p77 : lw_okq (⟨"RockingHorseModel", "readAct", "(I)V"⟩, 51) := ⟨⟨by decide +kernel, by decide +kernel⟩, lw_t4 (List.mem_of_getElem? (i := 224) rfl), lw_t6 (List.mem_of_getElem? (i := 89) rfl), lw_t6 (List.mem_of_getElem? (i := 90) rfl)⟩
theorem lw_p78 : lw_okq (⟨"RockingHorseModel", "act", "(III)Z"⟩, 51) := ⟨⟨by decide +kernel, by decide +kernel⟩, lw_t4 (List.mem_of_getElem? (i := 224) rfl), lw_t6 (List.mem_of_getElem? (i := 93) rfl), lw_t6 (List.mem_of_getElem? (i := 94) rfl)⟩
theorem lw_p79 : lw_okq (⟨"RockingHorseModel", "areTwo", "(II)Z"⟩, 51) := ⟨⟨by decide +kernel, by decide +kernel⟩, lw_t4 (List.mem_of_getElem? (i := 224) rfl), lw_t6 (List.mem_of_getElem? (i := 97) rfl), lw_t6 (List.mem_of_getElem? (i := 98) rfl)⟩
def lw_privs_5 : List (MethodName × Nat) := [(⟨"RockingHorseModel", "need", "(C)V"⟩, 51), (⟨"RockingHorseModel", "number", "(I)I"⟩, 51), (⟨"RockingHorseModel", "isMan", "(I)Z"⟩, 51), (⟨"RockingHorseModel", "lost", "()I"⟩, 51), (⟨"RockingHorseModel", "hoursOf", "([II)I"⟩, 51), (⟨"RockingHorseModel", "hardOf", "([III)I"⟩, 51), (⟨"RockingHorseModel", "remember", "([I)V"⟩, 51), (⟨"RockingHorseModel", "isGift", "(II)Z"⟩, 51), (⟨"RockingHorseModel", "illBits", "([I)I"⟩, 51), (⟨"RockingHorseModel", "goNights", "([II)V"⟩, 51), (⟨"RockingHorseModel", "goNight", "([I)V"⟩, 51), (⟨"RockingHorseModel", "tell", "(J)V"⟩, 51), (⟨"RockingHorseModel", "tired", "([I)I"⟩, 51), (⟨"RockingHorseModel", "readAct", "(I)V"⟩, 51), (⟨"RockingHorseModel", "act", "(III)Z"⟩, 51), (⟨"RockingHorseModel", "areTwo", "(II)Z"⟩, 51)]
theorem lw_r5 : ∀ q ∈ lw_privs_5, lw_okq q := List.forall_mem_cons.mpr ⟨lw_p64, List.forall_mem_cons.mpr ⟨lw_p65, List.forall_mem_cons.mpr ⟨lw_p66, List.forall_mem_cons.mpr ⟨lw_p67, List.forall_mem_cons.mpr ⟨lw_p68, List.forall_mem_cons.mpr ⟨lw_p69, List.forall_mem_cons.mpr ⟨lw_p70, List.forall_mem_cons.mpr ⟨lw_p71, List.forall_mem_cons.mpr ⟨lw_p72, List.forall_mem_cons.mpr ⟨lw_p73, List.forall_mem_cons.mpr ⟨lw_p74, List.forall_mem_cons.mpr ⟨lw_p75, List.forall_mem_cons.mpr ⟨lw_p76, List.forall_mem_cons.mpr ⟨lw_p77, List.forall_mem_cons.mpr ⟨lw_p78, List.forall_mem_cons.mpr ⟨lw_p79, fun _ h => absurd h List.not_mem_nil⟩⟩⟩⟩⟩⟩⟩⟩⟩⟩⟩⟩⟩⟩⟩⟩
theorem lw_p80 : lw_okq (⟨"RockingHorseModel", "goExchange", "(II)V"⟩, 51) := ⟨⟨by decide +kernel, by decide +kernel⟩, lw_t4 (List.mem_of_getElem? (i := 224) rfl), lw_t6 (List.mem_of_getElem? (i := 101) rfl), lw_t6 (List.mem_of_getElem? (i := 102) rfl)⟩
theorem lw_p81 : lw_okq (⟨"RockingHorseModel", "easiestBut", "(I)I"⟩, 51) := ⟨⟨by decide +kernel, by decide +kernel⟩, lw_t4 (List.mem_of_getElem? (i := 224) rfl), lw_t6 (List.mem_of_getElem? (i := 134) rfl), lw_t6 (List.mem_of_getElem? (i := 135) rfl)⟩
theorem lw_p82 : lw_okq (⟨"RockingHorseModel", "layMay", "(I)V"⟩, 51) := ⟨⟨by decide +kernel, by decide +kernel⟩, lw_t4 (List.mem_of_getElem? (i := 224) rfl), lw_t6 (List.mem_of_getElem? (i := 138) rfl), lw_t6 (List.mem_of_getElem? (i := 139) rfl)⟩
theorem lw_p83 : lw_okq (⟨"RockingHorseModel", "night", "()I"⟩, 51) := ⟨⟨by decide +kernel, by decide +kernel⟩, lw_t4 (List.mem_of_getElem? (i := 224) rfl), lw_t6 (List.mem_of_getElem? (i := 142) rfl), lw_t6 (List.mem_of_getElem? (i := 143) rfl)⟩
theorem lw_p84 : lw_okq (⟨"RockingHorseModel", "solve", "(I)I"⟩, 51) := ⟨⟨by decide +kernel, by decide +kernel⟩, lw_t4 (List.mem_of_getElem? (i := 224) rfl), lw_t6 (List.mem_of_getElem? (i := 146) rfl), lw_t6 (List.mem_of_getElem? (i := 147) rfl)⟩
theorem lw_p85 : lw_okq (⟨"RockingHorseModel", "canTake", "(II)Z"⟩, 51) := ⟨⟨by decide +kernel, by decide +kernel⟩, lw_t4 (List.mem_of_getElem? (i := 224) rfl), lw_t6 (List.mem_of_getElem? (i := 150) rfl), lw_t6 (List.mem_of_getElem? (i := 151) rfl)⟩
theorem lw_p86 : lw_okq (⟨"RockingHorseModel", "hardBy", "(II)I"⟩, 51) := ⟨⟨by decide +kernel, by decide +kernel⟩, lw_t4 (List.mem_of_getElem? (i := 224) rfl), lw_t6 (List.mem_of_getElem? (i := 154) rfl), lw_t6 (List.mem_of_getElem? (i := 155) rfl)⟩
theorem lw_p87 : lw_okq (⟨"RockingHorseModel", "costOf", "(III)I"⟩, 51) := ⟨⟨by decide +kernel, by decide +kernel⟩, lw_t4 (List.mem_of_getElem? (i := 224) rfl), lw_t6 (List.mem_of_getElem? (i := 158) rfl), lw_t6 (List.mem_of_getElem? (i := 159) rfl)⟩
theorem lw_p88 : lw_okq (⟨"RockingHorseModel", "layLine", "(II)V"⟩, 51) := ⟨⟨by decide +kernel, by decide +kernel⟩, lw_t4 (List.mem_of_getElem? (i := 224) rfl), lw_t6 (List.mem_of_getElem? (i := 162) rfl), lw_t6 (List.mem_of_getElem? (i := 163) rfl)⟩
theorem lw_p89 : lw_okq (⟨"RockingHorseModel", "keepMay", "()V"⟩, 51) := ⟨⟨by decide +kernel, by decide +kernel⟩, lw_t4 (List.mem_of_getElem? (i := 224) rfl), lw_t6 (List.mem_of_getElem? (i := 166) rfl), lw_t6 (List.mem_of_getElem? (i := 167) rfl)⟩
theorem lw_p90 : lw_okq (⟨"RockingHorseModel", "fix", "(II)V"⟩, 51) := ⟨⟨by decide +kernel, by decide +kernel⟩, lw_t4 (List.mem_of_getElem? (i := 224) rfl), lw_t6 (List.mem_of_getElem? (i := 170) rfl), lw_t6 (List.mem_of_getElem? (i := 171) rfl)⟩
theorem lw_p91 : lw_okq (⟨"RockingHorseModel", "areRight", "(I)Z"⟩, 51) := ⟨⟨by decide +kernel, by decide +kernel⟩, lw_t4 (List.mem_of_getElem? (i := 224) rfl), lw_t6 (List.mem_of_getElem? (i := 174) rfl), lw_t6 (List.mem_of_getElem? (i := 175) rfl)⟩
theorem lw_p92 : lw_okq (⟨"RockingHorseModel", "bringMay", "()V"⟩, 51) := ⟨⟨by decide +kernel, by decide +kernel⟩, lw_t4 (List.mem_of_getElem? (i := 224) rfl), lw_t6 (List.mem_of_getElem? (i := 178) rfl), lw_t6 (List.mem_of_getElem? (i := 179) rfl)⟩
theorem lw_p93 : lw_okq (⟨"RockingHorseModel", "tellLine", "()V"⟩, 51) := ⟨⟨by decide +kernel, by decide +kernel⟩, lw_t4 (List.mem_of_getElem? (i := 224) rfl), lw_t6 (List.mem_of_getElem? (i := 182) rfl), lw_t6 (List.mem_of_getElem? (i := 183) rfl)⟩
theorem lw_p94 : lw_okq (⟨"RockingHorseModel", "layCanBe", "()V"⟩, 51) := ⟨⟨by decide +kernel, by decide +kernel⟩, lw_t4 (List.mem_of_getElem? (i := 224) rfl), lw_t6 (List.mem_of_getElem? (i := 190) rfl), lw_t6 (List.mem_of_getElem? (i := 191) rfl)⟩
theorem lw_p95 : lw_okq (⟨"RockingHorseModel", "tellWays", "()I"⟩, 51) := ⟨⟨by decide +kernel, by decide +kernel⟩, lw_t4 (List.mem_of_getElem? (i := 224) rfl), lw_t6 (List.mem_of_getElem? (i := 202) rfl), lw_t6 (List.mem_of_getElem? (i := 203) rfl)⟩
def lw_privs_6 : List (MethodName × Nat) := [(⟨"RockingHorseModel", "goExchange", "(II)V"⟩, 51), (⟨"RockingHorseModel", "easiestBut", "(I)I"⟩, 51), (⟨"RockingHorseModel", "layMay", "(I)V"⟩, 51), (⟨"RockingHorseModel", "night", "()I"⟩, 51), (⟨"RockingHorseModel", "solve", "(I)I"⟩, 51), (⟨"RockingHorseModel", "canTake", "(II)Z"⟩, 51), (⟨"RockingHorseModel", "hardBy", "(II)I"⟩, 51), (⟨"RockingHorseModel", "costOf", "(III)I"⟩, 51), (⟨"RockingHorseModel", "layLine", "(II)V"⟩, 51), (⟨"RockingHorseModel", "keepMay", "()V"⟩, 51), (⟨"RockingHorseModel", "fix", "(II)V"⟩, 51), (⟨"RockingHorseModel", "areRight", "(I)Z"⟩, 51), (⟨"RockingHorseModel", "bringMay", "()V"⟩, 51), (⟨"RockingHorseModel", "tellLine", "()V"⟩, 51), (⟨"RockingHorseModel", "layCanBe", "()V"⟩, 51), (⟨"RockingHorseModel", "tellWays", "()I"⟩, 51)]
theorem lw_r6 : ∀ q ∈ lw_privs_6, lw_okq q := List.forall_mem_cons.mpr ⟨lw_p80, List.forall_mem_cons.mpr ⟨lw_p81, List.forall_mem_cons.mpr ⟨lw_p82, List.forall_mem_cons.mpr ⟨lw_p83, List.forall_mem_cons.mpr ⟨lw_p84, List.forall_mem_cons.mpr ⟨lw_p85, List.forall_mem_cons.mpr ⟨lw_p86, List.forall_mem_cons.mpr ⟨lw_p87, List.forall_mem_cons.mpr ⟨lw_p88, List.forall_mem_cons.mpr ⟨lw_p89, List.forall_mem_cons.mpr ⟨lw_p90, List.forall_mem_cons.mpr ⟨lw_p91, List.forall_mem_cons.mpr ⟨lw_p92, List.forall_mem_cons.mpr ⟨lw_p93, List.forall_mem_cons.mpr ⟨lw_p94, List.forall_mem_cons.mpr ⟨lw_p95, fun _ h => absurd h List.not_mem_nil⟩⟩⟩⟩⟩⟩⟩⟩⟩⟩⟩⟩⟩⟩⟩⟩
theorem lw_p96 : lw_okq (⟨"RockingHorseModel", "countWays", "()I"⟩, 51) := ⟨⟨by decide +kernel, by decide +kernel⟩, lw_t4 (List.mem_of_getElem? (i := 224) rfl), lw_t6 (List.mem_of_getElem? (i := 206) rfl), lw_t6 (List.mem_of_getElem? (i := 207) rfl)⟩
theorem lw_p97 : lw_okq (⟨"RockingHorseModel", "ableMany", "(I)I"⟩, 51) := ⟨⟨by decide +kernel, by decide +kernel⟩, lw_t4 (List.mem_of_getElem? (i := 224) rfl), lw_t7 (List.mem_of_getElem? (i := 10) rfl), lw_t7 (List.mem_of_getElem? (i := 11) rfl)⟩
theorem lw_p98 : lw_okq (⟨"RockingHorseModel", "goSmooth", "(II)Z"⟩, 51) := ⟨⟨by decide +kernel, by decide +kernel⟩, lw_t4 (List.mem_of_getElem? (i := 224) rfl), lw_t7 (List.mem_of_getElem? (i := 22) rfl), lw_t7 (List.mem_of_getElem? (i := 23) rfl)⟩
theorem lw_p99 : lw_okq (⟨"RockingHorseModel", "fitting", "(II)I"⟩, 51) := ⟨⟨by decide +kernel, by decide +kernel⟩, lw_t4 (List.mem_of_getElem? (i := 224) rfl), lw_t7 (List.mem_of_getElem? (i := 42) rfl), lw_t7 (List.mem_of_getElem? (i := 43) rfl)⟩
theorem lw_p100 : lw_okq (⟨"RockingHorseModel", "layFound", "()V"⟩, 51) := ⟨⟨by decide +kernel, by decide +kernel⟩, lw_t4 (List.mem_of_getElem? (i := 224) rfl), lw_t7 (List.mem_of_getElem? (i := 46) rfl), lw_t7 (List.mem_of_getElem? (i := 47) rfl)⟩
theorem lw_p101 : lw_okq (⟨"RockingHorseModel", "tellPart", "(JJ)V"⟩, 51) := ⟨⟨by decide +kernel, by decide +kernel⟩, lw_t4 (List.mem_of_getElem? (i := 224) rfl), lw_t7 (List.mem_of_getElem? (i := 54) rfl), lw_t7 (List.mem_of_getElem? (i := 55) rfl)⟩
theorem lw_p102 : lw_okq (⟨"RockingHorseModel", "well", "()I"⟩, 51) := ⟨⟨by decide +kernel, by decide +kernel⟩, lw_t4 (List.mem_of_getElem? (i := 224) rfl), lw_t7 (List.mem_of_getElem? (i := 69) rfl), lw_t7 (List.mem_of_getElem? (i := 70) rfl)⟩
theorem lw_p103 : lw_okq (⟨"RockingHorseModel", "heldParts", "(II)J"⟩, 51) := ⟨⟨by decide +kernel, by decide +kernel⟩, lw_t4 (List.mem_of_getElem? (i := 224) rfl), lw_t7 (List.mem_of_getElem? (i := 73) rfl), lw_t7 (List.mem_of_getElem? (i := 74) rfl)⟩
theorem lw_p104 : lw_okq (⟨"RockingHorseModel", "hardOfRota", "()I"⟩, 51) := ⟨⟨by decide +kernel, by decide +kernel⟩, lw_t4 (List.mem_of_getElem? (i := 224) rfl), lw_t7 (List.mem_of_getElem? (i := 102) rfl), lw_t7 (List.mem_of_getElem? (i := 103) rfl)⟩
theorem lw_p105 : lw_okq (⟨"RockingHorseModel", "draw", "(I)I"⟩, 51) := ⟨⟨by decide +kernel, by decide +kernel⟩, lw_t4 (List.mem_of_getElem? (i := 224) rfl), lw_t7 (List.mem_of_getElem? (i := 110) rfl), lw_t7 (List.mem_of_getElem? (i := 111) rfl)⟩
def lw_privs_7 : List (MethodName × Nat) := [(⟨"RockingHorseModel", "countWays", "()I"⟩, 51), (⟨"RockingHorseModel", "ableMany", "(I)I"⟩, 51), (⟨"RockingHorseModel", "goSmooth", "(II)Z"⟩, 51), (⟨"RockingHorseModel", "fitting", "(II)I"⟩, 51), (⟨"RockingHorseModel", "layFound", "()V"⟩, 51), (⟨"RockingHorseModel", "tellPart", "(JJ)V"⟩, 51), (⟨"RockingHorseModel", "well", "()I"⟩, 51), (⟨"RockingHorseModel", "heldParts", "(II)J"⟩, 51), (⟨"RockingHorseModel", "hardOfRota", "()I"⟩, 51), (⟨"RockingHorseModel", "draw", "(I)I"⟩, 51)]
theorem lw_r7 : ∀ q ∈ lw_privs_7, lw_okq q := List.forall_mem_cons.mpr ⟨lw_p96, List.forall_mem_cons.mpr ⟨lw_p97, List.forall_mem_cons.mpr ⟨lw_p98, List.forall_mem_cons.mpr ⟨lw_p99, List.forall_mem_cons.mpr ⟨lw_p100, List.forall_mem_cons.mpr ⟨lw_p101, List.forall_mem_cons.mpr ⟨lw_p102, List.forall_mem_cons.mpr ⟨lw_p103, List.forall_mem_cons.mpr ⟨lw_p104, List.forall_mem_cons.mpr ⟨lw_p105, fun _ h => absurd h List.not_mem_nil⟩⟩⟩⟩⟩⟩⟩⟩⟩⟩
def lw_privs : List (MethodName × Nat) := lw_privs_1 ++ (lw_privs_2 ++ (lw_privs_3 ++ (lw_privs_4 ++ (lw_privs_5 ++ (lw_privs_6 ++ (lw_privs_7))))))
def lw_tbl : List Cond := k2_sels lw_privs ++ tables_1
theorem lw_privs_ok : ∀ q ∈ lw_privs, lw_okq q := by
  show ∀ q ∈ lw_privs_1 ++ (lw_privs_2 ++ (lw_privs_3 ++ (lw_privs_4 ++ (lw_privs_5 ++ (lw_privs_6 ++ (lw_privs_7)))))), lw_okq q
  exact List.forall_mem_append.mpr ⟨lw_r1, List.forall_mem_append.mpr ⟨lw_r2, List.forall_mem_append.mpr ⟨lw_r3, List.forall_mem_append.mpr ⟨lw_r4, List.forall_mem_append.mpr ⟨lw_r5, List.forall_mem_append.mpr ⟨lw_r6, lw_r7⟩⟩⟩⟩⟩⟩
-- ===== ONE list of words for every method: the tables' words that hold all through a run =====
def lw_all : List Cond := lw_tbl.filter goodWord
/-- a word of the tables by its place: claim/WORDS.tsv -/
theorem lw_w {w : Cond} (i : Nat) (h : lw_tbl[i]? = some w) (g : goodWord w = true) : w ∈ lw_all := List.mem_filter.mpr ⟨List.mem_of_getElem? h, g⟩
theorem lw_all_tbl {w : Cond} (h : w ∈ lw_all) : w ∈ lw_tbl := (List.mem_filter.mp h).1
theorem lw_self : GoodIn lw_all lw_all := fun w h => ⟨h, good_of_word (List.mem_filter.mp h).2⟩
/-- a class's field words, by their places -/
theorem lw_in (ws : List Cond) (ps : List Nat) (hp : ws = ps.filterMap (fun i => lw_tbl[i]?)) (hg : ws.all goodWord = true) : ∀ w ∈ ws, w ∈ lw_all := by
  intro w h
  have h1 := List.all_eq_true.mp hg w h
  rw [hp] at h
  obtain ⟨i, -, hi⟩ := List.mem_filterMap.mp h
  exact lw_w i hi h1
/-- the words of a contract for the method y with code b, L locals, answer r -/
abbrev ws_ (y : MethodName) (b : ByteArray) (L : Nat) (r : Option FieldType) : List Cond := Cond.code y b L r :: lw_all
theorem lw_meth {y : MethodName} {b : ByteArray} {L : Nat} {r : Option FieldType} (h : Cond.code y b L r ∈ lw_all) : GoodIn lw_all (ws_ y b L r) := by
  intro w hw
  rcases List.mem_cons.mp hw with e | e
  · rw [e]
    exact lw_self _ h
  · exact lw_self _ e
theorem lw_app {a c : List Cond} (ha : ∀ w ∈ a, w ∈ lw_all) (hc : GoodIn lw_all c) : GoodIn lw_all (a ++ c) := by
  intro w hw
  rcases List.mem_append.mp hw with e | e
  · exact lw_self w (ha w e)
  · exact hc w e
/-- what a call through an object asks: cwV n hts (lw_V ..) -/
theorem lw_V {own : String} {idx : Nat} {C : String} {y : MethodName} {b : ByteArray} {L : Nat} {r : Option FieldType} (h1 : Cond.methodLink own idx y ∈ lw_all) (h2 : Cond.instanceMethod y ∈ lw_all) (h3 : Cond.selects C y y ∈ lw_all) (h4 : Cond.initialized C ∈ lw_all) (h5 : Cond.code y b L r ∈ lw_all) : GoodIn lw_all (wsV own idx C y (ws_ y b L r)) := by
  refine lw_app ?_ (lw_meth h5)
  intro w hw
  simp only [List.mem_cons, List.not_mem_nil, or_false] at hw
  rcases hw with e | e | e | e
  · rw [e]; exact h1
  · rw [e]; exact h2
  · rw [e]; exact h3
  · rw [e]; exact h4
/-- what a static call asks: va_cwS n hts (lw_S ..) -/
theorem lw_S {own : String} {idx : Nat} {y : MethodName} {b : ByteArray} {L : Nat} {r : Option FieldType} (h1 : Cond.methodLink own idx y ∈ lw_all) (h2 : Cond.static y ∈ lw_all) (h3 : Cond.initialized y.cls ∈ lw_all) (h4 : Cond.code y b L r ∈ lw_all) : GoodIn lw_all (va_wsS own idx y (ws_ y b L r)) := by
  refine lw_app ?_ (lw_meth h4)
  intro w hw
  simp only [List.mem_cons, List.not_mem_nil, or_false] at hw
  rcases hw with e | e | e
  · rw [e]; exact h1
  · rw [e]; exact h2
  · rw [e]; exact h3
/-- the words of a contract for a method WITH HANDLERS (hh: its table) -/
abbrev wsW_ (y : MethodName) (b : ByteArray) (L : Nat) (r : Option FieldType) (hh : List (Nat × Nat × Nat × Nat)) : List Cond := Cond.codeWith y b L r hh :: lw_all
theorem lw_methW {y : MethodName} {b : ByteArray} {L : Nat} {r : Option FieldType} {hh : List (Nat × Nat × Nat × Nat)} (h : Cond.codeWith y b L r hh ∈ lw_all) : GoodIn lw_all (wsW_ y b L r hh) := by
  intro w hw
  rcases List.mem_cons.mp hw with e | e
  · rw [e]
    exact lw_self _ h
  · exact lw_self _ e
/-- any list of words by their places (lw_in), good -/
theorem lw_good {ws : List Cond} (h : ∀ w ∈ ws, w ∈ lw_all) : GoodIn lw_all ws := fun w hw => lw_self w (h w hw)
/-- what a call of a method with handlers asks: vx_cwVW n hts (lw_VW ..), vx_cwSW n hts (lw_SW ..) -/
theorem lw_VW {own : String} {idx : Nat} {C : String} {y : MethodName} {b : ByteArray} {L : Nat} {r : Option FieldType} {hh : List (Nat × Nat × Nat × Nat)} (h1 : Cond.methodLink own idx y ∈ lw_all) (h2 : Cond.instanceMethod y ∈ lw_all) (h3 : Cond.selects C y y ∈ lw_all) (h4 : Cond.initialized C ∈ lw_all) (h5 : Cond.codeWith y b L r hh ∈ lw_all) : GoodIn lw_all (wsV own idx C y (wsW_ y b L r hh)) := by
  refine lw_app ?_ (lw_methW h5)
  intro w hw
  simp only [List.mem_cons, List.not_mem_nil, or_false] at hw
  rcases hw with e | e | e | e
  · rw [e]; exact h1
  · rw [e]; exact h2
  · rw [e]; exact h3
  · rw [e]; exact h4
theorem lw_SW {own : String} {idx : Nat} {y : MethodName} {b : ByteArray} {L : Nat} {r : Option FieldType} {hh : List (Nat × Nat × Nat × Nat)} (h1 : Cond.methodLink own idx y ∈ lw_all) (h2 : Cond.static y ∈ lw_all) (h3 : Cond.initialized y.cls ∈ lw_all) (h4 : Cond.codeWith y b L r hh ∈ lw_all) : GoodIn lw_all (va_wsS own idx y (wsW_ y b L r hh)) := by
  refine lw_app ?_ (lw_methW h4)
  intro w hw
  simp only [List.mem_cons, List.not_mem_nil, or_false] at hw
  rcases hw with e | e | e
  · rw [e]; exact h1
  · rw [e]; exact h2
  · rw [e]; exact h3
/-- a word by its place in its run of the tables -/
theorem lw_at {r : List Cond} (hr : ∀ w ∈ r, w ∈ lw_tbl) {w : Cond} (i : Nat) (h : r[i]? = some w) : w ∈ lw_tbl := hr w (List.mem_of_getElem? h)
theorem lw_g {w : Cond} (h : w ∈ lw_tbl) (g : goodWord w = true) : w ∈ lw_all := List.mem_filter.mpr ⟨h, g⟩
theorem lw_ms : ∀ w ∈ k2_sels lw_privs, w ∈ lw_tbl := fun w h => show w ∈ k2_sels lw_privs ++ tables_1 from List.mem_append_left _ h
theorem lw_m1 : ∀ w ∈ tables_1_1, w ∈ lw_tbl := fun w h => show w ∈ k2_sels lw_privs ++ tables_1 from List.mem_append_right (k2_sels lw_privs) (show w ∈ tables_1 from List.mem_append_left _ h)
theorem lw_m2 : ∀ w ∈ tables_1_2, w ∈ lw_tbl := fun w h => show w ∈ k2_sels lw_privs ++ tables_1 from List.mem_append_right (k2_sels lw_privs) (show w ∈ tables_1 from List.mem_append_right _ (List.mem_append_left _ h))
theorem lw_m3 : ∀ w ∈ tables_1_3, w ∈ lw_tbl := fun w h => show w ∈ k2_sels lw_privs ++ tables_1 from List.mem_append_right (k2_sels lw_privs) (show w ∈ tables_1 from List.mem_append_right _ (List.mem_append_right _ (List.mem_append_left _ h)))
theorem lw_m4 : ∀ w ∈ tables_1_4, w ∈ lw_tbl := fun w h => show w ∈ k2_sels lw_privs ++ tables_1 from List.mem_append_right (k2_sels lw_privs) (show w ∈ tables_1 from List.mem_append_right _ (List.mem_append_right _ (List.mem_append_right _ (List.mem_append_left _ h))))
theorem lw_m5 : ∀ w ∈ tables_1_5, w ∈ lw_tbl := fun w h => show w ∈ k2_sels lw_privs ++ tables_1 from List.mem_append_right (k2_sels lw_privs) (show w ∈ tables_1 from List.mem_append_right _ (List.mem_append_right _ (List.mem_append_right _ (List.mem_append_right _ (List.mem_append_left _ h)))))
theorem lw_m6 : ∀ w ∈ tables_1_6, w ∈ lw_tbl := fun w h => show w ∈ k2_sels lw_privs ++ tables_1 from List.mem_append_right (k2_sels lw_privs) (show w ∈ tables_1 from List.mem_append_right _ (List.mem_append_right _ (List.mem_append_right _ (List.mem_append_right _ (List.mem_append_right _ (List.mem_append_left _ h))))))
theorem lw_m7 : ∀ w ∈ tables_1_7, w ∈ lw_tbl := fun w h => show w ∈ k2_sels lw_privs ++ tables_1 from List.mem_append_right (k2_sels lw_privs) (show w ∈ tables_1 from List.mem_append_right _ (List.mem_append_right _ (List.mem_append_right _ (List.mem_append_right _ (List.mem_append_right _ (List.mem_append_right _ h))))))
theorem qs0 : (Cond.selects "RockingHorse" ⟨"RockingHorse", "begins", "(I)I"⟩ ⟨"RockingHorse", "begins", "(I)I"⟩) ∈ lw_all := lw_g (lw_at lw_ms 0 rfl) rfl
theorem qs1 : (Cond.selects "RockingHorse" ⟨"RockingHorse", "readsRider", "()Z"⟩ ⟨"RockingHorse", "readsRider", "()Z"⟩) ∈ lw_all := lw_g (lw_at lw_ms 1 rfl) rfl
theorem qs2 : (Cond.selects "RockingHorse" ⟨"RockingHorse", "takesOf", "(Ljava/lang/String;)I"⟩ ⟨"RockingHorse", "takesOf", "(Ljava/lang/String;)I"⟩) ∈ lw_all := lw_g (lw_at lw_ms 2 rfl) rfl
theorem qs3 : (Cond.selects "RockingHorse" ⟨"RockingHorse", "among", "(Ljava/lang/String;)I"⟩ ⟨"RockingHorse", "among", "(Ljava/lang/String;)I"⟩) ∈ lw_all := lw_g (lw_at lw_ms 3 rfl) rfl
theorem qs4 : (Cond.selects "RockingHorse" ⟨"RockingHorse", "takes", "(C)Z"⟩ ⟨"RockingHorse", "takes", "(C)Z"⟩) ∈ lw_all := lw_g (lw_at lw_ms 4 rfl) rfl
theorem qs5 : (Cond.selects "RockingHorse" ⟨"RockingHorse", "isAt", "(C)Z"⟩ ⟨"RockingHorse", "isAt", "(C)Z"⟩) ∈ lw_all := lw_g (lw_at lw_ms 5 rfl) rfl
theorem qs6 : (Cond.selects "RockingHorse" ⟨"RockingHorse", "faultOf", "(IZ)I"⟩ ⟨"RockingHorse", "faultOf", "(IZ)I"⟩) ∈ lw_all := lw_g (lw_at lw_ms 6 rfl) rfl
theorem qs7 : (Cond.selects "RockingHorse" ⟨"RockingHorse", "readsRule", "()I"⟩ ⟨"RockingHorse", "readsRule", "()I"⟩) ∈ lw_all := lw_g (lw_at lw_ms 7 rfl) rfl
theorem qs8 : (Cond.selects "RockingHorse" ⟨"RockingHorse", "reads", "(I)LRockingHorse$Node;"⟩ ⟨"RockingHorse", "reads", "(I)LRockingHorse$Node;"⟩) ∈ lw_all := lw_g (lw_at lw_ms 8 rfl) rfl
theorem qs9 : (Cond.selects "RockingHorse" ⟨"RockingHorse", "readsThing", "()LRockingHorse$Node;"⟩ ⟨"RockingHorse", "readsThing", "()LRockingHorse$Node;"⟩) ∈ lw_all := lw_g (lw_at lw_ms 9 rfl) rfl
theorem qs10 : (Cond.selects "RockingHorse" ⟨"RockingHorse", "isDigit", "()Z"⟩ ⟨"RockingHorse", "isDigit", "()Z"⟩) ∈ lw_all := lw_g (lw_at lw_ms 10 rfl) rfl
theorem qs11 : (Cond.selects "RockingHorse" ⟨"RockingHorse", "number", "(I)I"⟩ ⟨"RockingHorse", "number", "(I)I"⟩) ∈ lw_all := lw_g (lw_at lw_ms 11 rfl) rfl
theorem qs12 : (Cond.selects "RockingHorse" ⟨"RockingHorse", "isRider", "(I)Z"⟩ ⟨"RockingHorse", "isRider", "(I)Z"⟩) ∈ lw_all := lw_g (lw_at lw_ms 12 rfl) rfl
theorem qs13 : (Cond.selects "RockingHorse" ⟨"RockingHorse", "hardOf", "(LRockingHorse$Horse;II)I"⟩ ⟨"RockingHorse", "hardOf", "(LRockingHorse$Horse;II)I"⟩) ∈ lw_all := lw_g (lw_at lw_ms 13 rfl) rfl
theorem qs14 : (Cond.selects "RockingHorse" ⟨"RockingHorse", "sumOf", "([I)I"⟩ ⟨"RockingHorse", "sumOf", "([I)I"⟩) ∈ lw_all := lw_g (lw_at lw_ms 14 rfl) rfl
theorem qs15 : (Cond.selects "RockingHorse" ⟨"RockingHorse", "putsBy", "(LRockingHorse$Horse;)V"⟩ ⟨"RockingHorse", "putsBy", "(LRockingHorse$Horse;)V"⟩) ∈ lw_all := lw_g (lw_at lw_ms 15 rfl) rfl
theorem qs16 : (Cond.selects "RockingHorse" ⟨"RockingHorse", "gives", "(LRockingHorse$Horse;II)Z"⟩ ⟨"RockingHorse", "gives", "(LRockingHorse$Horse;II)Z"⟩) ∈ lw_all := lw_g (lw_at lw_ms 16 rfl) rfl
theorem qs17 : (Cond.selects "RockingHorse" ⟨"RockingHorse", "falls", "(LRockingHorse$Horse;I)I"⟩ ⟨"RockingHorse", "falls", "(LRockingHorse$Horse;I)I"⟩) ∈ lw_all := lw_g (lw_at lw_ms 17 rfl) rfl
theorem qs18 : (Cond.selects "RockingHorse" ⟨"RockingHorse", "nightsGo", "(LRockingHorse$Horse;I)V"⟩ ⟨"RockingHorse", "nightsGo", "(LRockingHorse$Horse;I)V"⟩) ∈ lw_all := lw_g (lw_at lw_ms 18 rfl) rfl
theorem qs19 : (Cond.selects "RockingHorse" ⟨"RockingHorse", "nightGoes", "(LRockingHorse$Horse;)V"⟩ ⟨"RockingHorse", "nightGoes", "(LRockingHorse$Horse;)V"⟩) ∈ lw_all := lw_g (lw_at lw_ms 19 rfl) rfl
theorem qs20 : (Cond.selects "RockingHorse" ⟨"RockingHorse", "rides", "(LRockingHorse$Horse;)V"⟩ ⟨"RockingHorse", "rides", "(LRockingHorse$Horse;)V"⟩) ∈ lw_all := lw_g (lw_at lw_ms 20 rfl) rfl
theorem qs21 : (Cond.selects "RockingHorse" ⟨"RockingHorse", "tells", "(J)V"⟩ ⟨"RockingHorse", "tells", "(J)V"⟩) ∈ lw_all := lw_g (lw_at lw_ms 21 rfl) rfl
theorem qs22 : (Cond.selects "RockingHorse" ⟨"RockingHorse", "readsAct", "()Z"⟩ ⟨"RockingHorse", "readsAct", "()Z"⟩) ∈ lw_all := lw_g (lw_at lw_ms 22 rfl) rfl
theorem qs23 : (Cond.selects "RockingHorse" ⟨"RockingHorse", "does", "(I)Z"⟩ ⟨"RockingHorse", "does", "(I)Z"⟩) ∈ lw_all := lw_g (lw_at lw_ms 23 rfl) rfl
theorem qs24 : (Cond.selects "RockingHorse" ⟨"RockingHorse", "exchanges", "(LRockingHorse$Horse;II)Z"⟩ ⟨"RockingHorse", "exchanges", "(LRockingHorse$Horse;II)Z"⟩) ∈ lw_all := lw_g (lw_at lw_ms 24 rfl) rfl
theorem qs25 : (Cond.selects "RockingHorse" ⟨"RockingHorse", "isPair", "(II)Z"⟩ ⟨"RockingHorse", "isPair", "(II)Z"⟩) ∈ lw_all := lw_g (lw_at lw_ms 25 rfl) rfl
theorem qs26 : (Cond.selects "RockingHorse" ⟨"RockingHorse", "easiestBut", "(I)I"⟩ ⟨"RockingHorse", "easiestBut", "(I)I"⟩) ∈ lw_all := lw_g (lw_at lw_ms 26 rfl) rfl
theorem qs27 : (Cond.selects "RockingHorse" ⟨"RockingHorse", "opens", "(I)V"⟩ ⟨"RockingHorse", "opens", "(I)V"⟩) ∈ lw_all := lw_g (lw_at lw_ms 27 rfl) rfl
theorem qs28 : (Cond.selects "RockingHorse" ⟨"RockingHorse", "wholeNight", "()I"⟩ ⟨"RockingHorse", "wholeNight", "()I"⟩) ∈ lw_all := lw_g (lw_at lw_ms 28 rfl) rfl
theorem qs29 : (Cond.selects "RockingHorse" ⟨"RockingHorse", "pricesHard", "()V"⟩ ⟨"RockingHorse", "pricesHard", "()V"⟩) ∈ lw_all := lw_g (lw_at lw_ms 29 rfl) rfl
theorem qs30 : (Cond.selects "RockingHorse" ⟨"RockingHorse", "laysLeast", "()I"⟩ ⟨"RockingHorse", "laysLeast", "()I"⟩) ∈ lw_all := lw_g (lw_at lw_ms 30 rfl) rfl
theorem qs31 : (Cond.selects "RockingHorse" ⟨"RockingHorse", "pricesSets", "(I)V"⟩ ⟨"RockingHorse", "pricesSets", "(I)V"⟩) ∈ lw_all := lw_g (lw_at lw_ms 31 rfl) rfl
theorem qs32 : (Cond.selects "RockingHorse" ⟨"RockingHorse", "laysTurn", "(I)V"⟩ ⟨"RockingHorse", "laysTurn", "(I)V"⟩) ∈ lw_all := lw_g (lw_at lw_ms 32 rfl) rfl
theorem qs33 : (Cond.selects "RockingHorse" ⟨"RockingHorse", "fixes", "(II)V"⟩ ⟨"RockingHorse", "fixes", "(II)V"⟩) ∈ lw_all := lw_g (lw_at lw_ms 33 rfl) rfl
theorem qs34 : (Cond.selects "RockingHorse" ⟨"RockingHorse", "tellsTurn", "()V"⟩ ⟨"RockingHorse", "tellsTurn", "()V"⟩) ∈ lw_all := lw_g (lw_at lw_ms 34 rfl) rfl
theorem qs35 : (Cond.selects "RockingHorse" ⟨"RockingHorse", "all", "()I"⟩ ⟨"RockingHorse", "all", "()I"⟩) ∈ lw_all := lw_g (lw_at lw_ms 35 rfl) rfl
theorem qs36 : (Cond.selects "RockingHorse" ⟨"RockingHorse", "lacking", "(I)I"⟩ ⟨"RockingHorse", "lacking", "(I)I"⟩) ∈ lw_all := lw_g (lw_at lw_ms 36 rfl) rfl
theorem qs37 : (Cond.selects "RockingHorse" ⟨"RockingHorse", "well", "()I"⟩ ⟨"RockingHorse", "well", "()I"⟩) ∈ lw_all := lw_g (lw_at lw_ms 37 rfl) rfl
theorem qs38 : (Cond.selects "RockingHorse" ⟨"RockingHorse", "tellsWays", "()I"⟩ ⟨"RockingHorse", "tellsWays", "()I"⟩) ∈ lw_all := lw_g (lw_at lw_ms 38 rfl) rfl
theorem qs39 : (Cond.selects "RockingHorse" ⟨"RockingHorse", "laysWays", "()J"⟩ ⟨"RockingHorse", "laysWays", "()J"⟩) ∈ lw_all := lw_g (lw_at lw_ms 39 rfl) rfl
theorem qs40 : (Cond.selects "RockingHorse" ⟨"RockingHorse", "manyWho", "(I)I"⟩ ⟨"RockingHorse", "manyWho", "(I)I"⟩) ∈ lw_all := lw_g (lw_at lw_ms 40 rfl) rfl
theorem qs41 : (Cond.selects "RockingHorse" ⟨"RockingHorse", "smoothsFrom", "(II)V"⟩ ⟨"RockingHorse", "smoothsFrom", "(II)V"⟩) ∈ lw_all := lw_g (lw_at lw_ms 41 rfl) rfl
theorem qs42 : (Cond.selects "RockingHorse" ⟨"RockingHorse", "opensFound", "()V"⟩ ⟨"RockingHorse", "opensFound", "()V"⟩) ∈ lw_all := lw_g (lw_at lw_ms 42 rfl) rfl
theorem qs43 : (Cond.selects "RockingHorse" ⟨"RockingHorse", "isHour", "(I)Z"⟩ ⟨"RockingHorse", "isHour", "(I)Z"⟩) ∈ lw_all := lw_g (lw_at lw_ms 43 rfl) rfl
theorem qs44 : (Cond.selects "RockingHorse" ⟨"RockingHorse", "fitsIf", "(II)J"⟩ ⟨"RockingHorse", "fitsIf", "(II)J"⟩) ∈ lw_all := lw_g (lw_at lw_ms 44 rfl) rfl
theorem qs45 : (Cond.selects "RockingHorse" ⟨"RockingHorse", "tellsFraction", "(JJ)V"⟩ ⟨"RockingHorse", "tellsFraction", "(JJ)V"⟩) ∈ lw_all := lw_g (lw_at lw_ms 45 rfl) rfl
theorem qs46 : (Cond.selects "RockingHorse" ⟨"RockingHorse", "heldBy", "(II)J"⟩ ⟨"RockingHorse", "heldBy", "(II)J"⟩) ∈ lw_all := lw_g (lw_at lw_ms 46 rfl) rfl
theorem qs47 : (Cond.selects "RockingHorse" ⟨"RockingHorse", "hardOfRota", "()I"⟩ ⟨"RockingHorse", "hardOfRota", "()I"⟩) ∈ lw_all := lw_g (lw_at lw_ms 47 rfl) rfl
theorem qs48 : (Cond.selects "RockingHorse" ⟨"RockingHorse", "draws", "(I)I"⟩ ⟨"RockingHorse", "draws", "(I)I"⟩) ∈ lw_all := lw_g (lw_at lw_ms 48 rfl) rfl
theorem qs49 : (Cond.selects "java/lang/Throwable" ⟨"java/lang/Throwable", "fillInStackTrace", "(I)Ljava/lang/Throwable;"⟩ ⟨"java/lang/Throwable", "fillInStackTrace", "(I)Ljava/lang/Throwable;"⟩) ∈ lw_all := lw_g (lw_at lw_ms 49 rfl) rfl
theorem qs50 : (Cond.selects "RockingHorseModel" ⟨"RockingHorseModel", "beginText", "(I)V"⟩ ⟨"RockingHorseModel", "beginText", "(I)V"⟩) ∈ lw_all := lw_g (lw_at lw_ms 50 rfl) rfl
theorem qs51 : (Cond.selects "RockingHorseModel" ⟨"RockingHorseModel", "begin", "([BII)V"⟩ ⟨"RockingHorseModel", "begin", "([BII)V"⟩) ∈ lw_all := lw_g (lw_at lw_ms 51 rfl) rfl
theorem qs52 : (Cond.selects "RockingHorseModel" ⟨"RockingHorseModel", "fine", "()Z"⟩ ⟨"RockingHorseModel", "fine", "()Z"⟩) ∈ lw_all := lw_g (lw_at lw_ms 52 rfl) rfl
theorem qs53 : (Cond.selects "RockingHorseModel" ⟨"RockingHorseModel", "fault", "(I)V"⟩ ⟨"RockingHorseModel", "fault", "(I)V"⟩) ∈ lw_all := lw_g (lw_at lw_ms 53 rfl) rfl
theorem qs54 : (Cond.selects "RockingHorseModel" ⟨"RockingHorseModel", "readMan", "(I)V"⟩ ⟨"RockingHorseModel", "readMan", "(I)V"⟩) ∈ lw_all := lw_g (lw_at lw_ms 54 rfl) rfl
theorem qs55 : (Cond.selects "RockingHorseModel" ⟨"RockingHorseModel", "oneOf", "(CI)I"⟩ ⟨"RockingHorseModel", "oneOf", "(CI)I"⟩) ∈ lw_all := lw_g (lw_at lw_ms 55 rfl) rfl
theorem qs56 : (Cond.selects "RockingHorseModel" ⟨"RockingHorseModel", "here", "()I"⟩ ⟨"RockingHorseModel", "here", "()I"⟩) ∈ lw_all := lw_g (lw_at lw_ms 56 rfl) rfl
theorem qs57 : (Cond.selects "RockingHorseModel" ⟨"RockingHorseModel", "passes", "(C)Z"⟩ ⟨"RockingHorseModel", "passes", "(C)Z"⟩) ∈ lw_all := lw_g (lw_at lw_ms 57 rfl) rfl
theorem qs58 : (Cond.selects "RockingHorseModel" ⟨"RockingHorseModel", "wasRight", "()Z"⟩ ⟨"RockingHorseModel", "wasRight", "()Z"⟩) ∈ lw_all := lw_g (lw_at lw_ms 58 rfl) rfl
theorem qs59 : (Cond.selects "RockingHorseModel" ⟨"RockingHorseModel", "readRule", "()Z"⟩ ⟨"RockingHorseModel", "readRule", "()Z"⟩) ∈ lw_all := lw_g (lw_at lw_ms 59 rfl) rfl
theorem qs60 : (Cond.selects "RockingHorseModel" ⟨"RockingHorseModel", "heldBy", "(I)I"⟩ ⟨"RockingHorseModel", "heldBy", "(I)I"⟩) ∈ lw_all := lw_g (lw_at lw_ms 60 rfl) rfl
theorem qs61 : (Cond.selects "RockingHorseModel" ⟨"RockingHorseModel", "sum", "(I)I"⟩ ⟨"RockingHorseModel", "sum", "(I)I"⟩) ∈ lw_all := lw_g (lw_at lw_ms 61 rfl) rfl
theorem qs62 : (Cond.selects "RockingHorseModel" ⟨"RockingHorseModel", "product", "(I)I"⟩ ⟨"RockingHorseModel", "product", "(I)I"⟩) ∈ lw_all := lw_g (lw_at lw_ms 62 rfl) rfl
theorem qs63 : (Cond.selects "RockingHorseModel" ⟨"RockingHorseModel", "thing", "(I)I"⟩ ⟨"RockingHorseModel", "thing", "(I)I"⟩) ∈ lw_all := lw_g (lw_at lw_ms 63 rfl) rfl
theorem qs64 : (Cond.selects "RockingHorseModel" ⟨"RockingHorseModel", "need", "(C)V"⟩ ⟨"RockingHorseModel", "need", "(C)V"⟩) ∈ lw_all := lw_g (lw_at lw_ms 64 rfl) rfl
theorem qs65 : (Cond.selects "RockingHorseModel" ⟨"RockingHorseModel", "number", "(I)I"⟩ ⟨"RockingHorseModel", "number", "(I)I"⟩) ∈ lw_all := lw_g (lw_at lw_ms 65 rfl) rfl
theorem qs66 : (Cond.selects "RockingHorseModel" ⟨"RockingHorseModel", "isMan", "(I)Z"⟩ ⟨"RockingHorseModel", "isMan", "(I)Z"⟩) ∈ lw_all := lw_g (lw_at lw_ms 66 rfl) rfl
theorem qs67 : (Cond.selects "RockingHorseModel" ⟨"RockingHorseModel", "lost", "()I"⟩ ⟨"RockingHorseModel", "lost", "()I"⟩) ∈ lw_all := lw_g (lw_at lw_ms 67 rfl) rfl
theorem qs68 : (Cond.selects "RockingHorseModel" ⟨"RockingHorseModel", "hoursOf", "([II)I"⟩ ⟨"RockingHorseModel", "hoursOf", "([II)I"⟩) ∈ lw_all := lw_g (lw_at lw_ms 68 rfl) rfl
theorem qs69 : (Cond.selects "RockingHorseModel" ⟨"RockingHorseModel", "hardOf", "([III)I"⟩ ⟨"RockingHorseModel", "hardOf", "([III)I"⟩) ∈ lw_all := lw_g (lw_at lw_ms 69 rfl) rfl
theorem qs70 : (Cond.selects "RockingHorseModel" ⟨"RockingHorseModel", "remember", "([I)V"⟩ ⟨"RockingHorseModel", "remember", "([I)V"⟩) ∈ lw_all := lw_g (lw_at lw_ms 70 rfl) rfl
theorem qs71 : (Cond.selects "RockingHorseModel" ⟨"RockingHorseModel", "isGift", "(II)Z"⟩ ⟨"RockingHorseModel", "isGift", "(II)Z"⟩) ∈ lw_all := lw_g (lw_at lw_ms 71 rfl) rfl
theorem qs72 : (Cond.selects "RockingHorseModel" ⟨"RockingHorseModel", "illBits", "([I)I"⟩ ⟨"RockingHorseModel", "illBits", "([I)I"⟩) ∈ lw_all := lw_g (lw_at lw_ms 72 rfl) rfl
theorem qs73 : (Cond.selects "RockingHorseModel" ⟨"RockingHorseModel", "goNights", "([II)V"⟩ ⟨"RockingHorseModel", "goNights", "([II)V"⟩) ∈ lw_all := lw_g (lw_at lw_ms 73 rfl) rfl
theorem qs74 : (Cond.selects "RockingHorseModel" ⟨"RockingHorseModel", "goNight", "([I)V"⟩ ⟨"RockingHorseModel", "goNight", "([I)V"⟩) ∈ lw_all := lw_g (lw_at lw_ms 74 rfl) rfl
theorem qs75 : (Cond.selects "RockingHorseModel" ⟨"RockingHorseModel", "tell", "(J)V"⟩ ⟨"RockingHorseModel", "tell", "(J)V"⟩) ∈ lw_all := lw_g (lw_at lw_ms 75 rfl) rfl
theorem qs76 : (Cond.selects "RockingHorseModel" ⟨"RockingHorseModel", "tired", "([I)I"⟩ ⟨"RockingHorseModel", "tired", "([I)I"⟩) ∈ lw_all := lw_g (lw_at lw_ms 76 rfl) rfl
theorem qs77 : (Cond.selects "RockingHorseModel" ⟨"RockingHorseModel", "readAct", "(I)V"⟩ ⟨"RockingHorseModel", "readAct", "(I)V"⟩) ∈ lw_all := lw_g (lw_at lw_ms 77 rfl) rfl
theorem qs78 : (Cond.selects "RockingHorseModel" ⟨"RockingHorseModel", "act", "(III)Z"⟩ ⟨"RockingHorseModel", "act", "(III)Z"⟩) ∈ lw_all := lw_g (lw_at lw_ms 78 rfl) rfl
theorem qs79 : (Cond.selects "RockingHorseModel" ⟨"RockingHorseModel", "areTwo", "(II)Z"⟩ ⟨"RockingHorseModel", "areTwo", "(II)Z"⟩) ∈ lw_all := lw_g (lw_at lw_ms 79 rfl) rfl
theorem qs80 : (Cond.selects "RockingHorseModel" ⟨"RockingHorseModel", "goExchange", "(II)V"⟩ ⟨"RockingHorseModel", "goExchange", "(II)V"⟩) ∈ lw_all := lw_g (lw_at lw_ms 80 rfl) rfl
theorem qs81 : (Cond.selects "RockingHorseModel" ⟨"RockingHorseModel", "easiestBut", "(I)I"⟩ ⟨"RockingHorseModel", "easiestBut", "(I)I"⟩) ∈ lw_all := lw_g (lw_at lw_ms 81 rfl) rfl
theorem qs82 : (Cond.selects "RockingHorseModel" ⟨"RockingHorseModel", "layMay", "(I)V"⟩ ⟨"RockingHorseModel", "layMay", "(I)V"⟩) ∈ lw_all := lw_g (lw_at lw_ms 82 rfl) rfl
theorem qs83 : (Cond.selects "RockingHorseModel" ⟨"RockingHorseModel", "night", "()I"⟩ ⟨"RockingHorseModel", "night", "()I"⟩) ∈ lw_all := lw_g (lw_at lw_ms 83 rfl) rfl
theorem qs84 : (Cond.selects "RockingHorseModel" ⟨"RockingHorseModel", "solve", "(I)I"⟩ ⟨"RockingHorseModel", "solve", "(I)I"⟩) ∈ lw_all := lw_g (lw_at lw_ms 84 rfl) rfl
theorem qs85 : (Cond.selects "RockingHorseModel" ⟨"RockingHorseModel", "canTake", "(II)Z"⟩ ⟨"RockingHorseModel", "canTake", "(II)Z"⟩) ∈ lw_all := lw_g (lw_at lw_ms 85 rfl) rfl
theorem qs86 : (Cond.selects "RockingHorseModel" ⟨"RockingHorseModel", "hardBy", "(II)I"⟩ ⟨"RockingHorseModel", "hardBy", "(II)I"⟩) ∈ lw_all := lw_g (lw_at lw_ms 86 rfl) rfl
theorem qs87 : (Cond.selects "RockingHorseModel" ⟨"RockingHorseModel", "costOf", "(III)I"⟩ ⟨"RockingHorseModel", "costOf", "(III)I"⟩) ∈ lw_all := lw_g (lw_at lw_ms 87 rfl) rfl
theorem qs88 : (Cond.selects "RockingHorseModel" ⟨"RockingHorseModel", "layLine", "(II)V"⟩ ⟨"RockingHorseModel", "layLine", "(II)V"⟩) ∈ lw_all := lw_g (lw_at lw_ms 88 rfl) rfl
theorem qs89 : (Cond.selects "RockingHorseModel" ⟨"RockingHorseModel", "keepMay", "()V"⟩ ⟨"RockingHorseModel", "keepMay", "()V"⟩) ∈ lw_all := lw_g (lw_at lw_ms 89 rfl) rfl
theorem qs90 : (Cond.selects "RockingHorseModel" ⟨"RockingHorseModel", "fix", "(II)V"⟩ ⟨"RockingHorseModel", "fix", "(II)V"⟩) ∈ lw_all := lw_g (lw_at lw_ms 90 rfl) rfl
theorem qs91 : (Cond.selects "RockingHorseModel" ⟨"RockingHorseModel", "areRight", "(I)Z"⟩ ⟨"RockingHorseModel", "areRight", "(I)Z"⟩) ∈ lw_all := lw_g (lw_at lw_ms 91 rfl) rfl
theorem qs92 : (Cond.selects "RockingHorseModel" ⟨"RockingHorseModel", "bringMay", "()V"⟩ ⟨"RockingHorseModel", "bringMay", "()V"⟩) ∈ lw_all := lw_g (lw_at lw_ms 92 rfl) rfl
theorem qs93 : (Cond.selects "RockingHorseModel" ⟨"RockingHorseModel", "tellLine", "()V"⟩ ⟨"RockingHorseModel", "tellLine", "()V"⟩) ∈ lw_all := lw_g (lw_at lw_ms 93 rfl) rfl
theorem qs94 : (Cond.selects "RockingHorseModel" ⟨"RockingHorseModel", "layCanBe", "()V"⟩ ⟨"RockingHorseModel", "layCanBe", "()V"⟩) ∈ lw_all := lw_g (lw_at lw_ms 94 rfl) rfl
theorem qs95 : (Cond.selects "RockingHorseModel" ⟨"RockingHorseModel", "tellWays", "()I"⟩ ⟨"RockingHorseModel", "tellWays", "()I"⟩) ∈ lw_all := lw_g (lw_at lw_ms 95 rfl) rfl
theorem qs96 : (Cond.selects "RockingHorseModel" ⟨"RockingHorseModel", "countWays", "()I"⟩ ⟨"RockingHorseModel", "countWays", "()I"⟩) ∈ lw_all := lw_g (lw_at lw_ms 96 rfl) rfl
theorem qs97 : (Cond.selects "RockingHorseModel" ⟨"RockingHorseModel", "ableMany", "(I)I"⟩ ⟨"RockingHorseModel", "ableMany", "(I)I"⟩) ∈ lw_all := lw_g (lw_at lw_ms 97 rfl) rfl
theorem qs98 : (Cond.selects "RockingHorseModel" ⟨"RockingHorseModel", "goSmooth", "(II)Z"⟩ ⟨"RockingHorseModel", "goSmooth", "(II)Z"⟩) ∈ lw_all := lw_g (lw_at lw_ms 98 rfl) rfl
theorem qs99 : (Cond.selects "RockingHorseModel" ⟨"RockingHorseModel", "fitting", "(II)I"⟩ ⟨"RockingHorseModel", "fitting", "(II)I"⟩) ∈ lw_all := lw_g (lw_at lw_ms 99 rfl) rfl
theorem qs100 : (Cond.selects "RockingHorseModel" ⟨"RockingHorseModel", "layFound", "()V"⟩ ⟨"RockingHorseModel", "layFound", "()V"⟩) ∈ lw_all := lw_g (lw_at lw_ms 100 rfl) rfl
theorem qs101 : (Cond.selects "RockingHorseModel" ⟨"RockingHorseModel", "tellPart", "(JJ)V"⟩ ⟨"RockingHorseModel", "tellPart", "(JJ)V"⟩) ∈ lw_all := lw_g (lw_at lw_ms 101 rfl) rfl
theorem qs102 : (Cond.selects "RockingHorseModel" ⟨"RockingHorseModel", "well", "()I"⟩ ⟨"RockingHorseModel", "well", "()I"⟩) ∈ lw_all := lw_g (lw_at lw_ms 102 rfl) rfl
theorem qs103 : (Cond.selects "RockingHorseModel" ⟨"RockingHorseModel", "heldParts", "(II)J"⟩ ⟨"RockingHorseModel", "heldParts", "(II)J"⟩) ∈ lw_all := lw_g (lw_at lw_ms 103 rfl) rfl
theorem qs104 : (Cond.selects "RockingHorseModel" ⟨"RockingHorseModel", "hardOfRota", "()I"⟩ ⟨"RockingHorseModel", "hardOfRota", "()I"⟩) ∈ lw_all := lw_g (lw_at lw_ms 104 rfl) rfl
theorem qs105 : (Cond.selects "RockingHorseModel" ⟨"RockingHorseModel", "draw", "(I)I"⟩ ⟨"RockingHorseModel", "draw", "(I)I"⟩) ∈ lw_all := lw_g (lw_at lw_ms 105 rfl) rfl
