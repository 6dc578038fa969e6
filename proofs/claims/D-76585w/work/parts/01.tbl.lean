-- ===== PART A: goes FIRST, ahead of the names: the tables' words, and 'selects' of the private methods out of them =====
/-- a private method of a class that the tables say can be made, by its rows of tables_1 -/
def lw_okq (q : MethodName × Nat) : Prop := (q.1.cls ≠ "java/lang/invoke/MethodHandle" ∧ q.1.cls ≠ "java/lang/invoke/VarHandle") ∧ Cond.instantiable q.1.cls q.2 ∈ tables_1 ∧ Cond.privateMethod q.1 ∈ tables_1 ∧ Cond.instanceMethod q.1 ∈ tables_1
set_option maxRecDepth 100000
theorem lw_t1 {w : Cond} (h : w ∈ tables_1_1) : w ∈ tables_1 := List.mem_append_left _ h
theorem lw_t2 {w : Cond} (h : w ∈ tables_1_2) : w ∈ tables_1 := List.mem_append_right _ (List.mem_append_left _ h)
theorem lw_t3 {w : Cond} (h : w ∈ tables_1_3) : w ∈ tables_1 := List.mem_append_right _ (List.mem_append_right _ (List.mem_append_left _ h))
theorem lw_t4 {w : Cond} (h : w ∈ tables_1_4) : w ∈ tables_1 := List.mem_append_right _ (List.mem_append_right _ (List.mem_append_right _ (List.mem_append_left _ h)))
theorem lw_t5 {w : Cond} (h : w ∈ tables_1_5) : w ∈ tables_1 := List.mem_append_right _ (List.mem_append_right _ (List.mem_append_right _ (List.mem_append_right _ (List.mem_append_left _ h))))
theorem lw_t6 {w : Cond} (h : w ∈ tables_1_6) : w ∈ tables_1 := List.mem_append_right _ (List.mem_append_right _ (List.mem_append_right _ (List.mem_append_right _ (List.mem_append_right _ (List.mem_append_left _ h)))))
theorem lw_t7 {w : Cond} (h : w ∈ tables_1_7) : w ∈ tables_1 := List.mem_append_right _ (List.mem_append_right _ (List.mem_append_right _ (List.mem_append_right _ (List.mem_append_right _ (List.mem_append_right _ h)))))
theorem lw_p0 : lw_okq (⟨"WellOfTheSilent", "act", "(IIII)I"⟩, 12) := ⟨⟨by decide +kernel, by decide +kernel⟩, lw_t1 (List.mem_of_getElem? (i := 30) rfl), lw_t1 (List.mem_of_getElem? (i := 200) rfl), lw_t1 (List.mem_of_getElem? (i := 201) rfl)⟩
theorem lw_p1 : lw_okq (⟨"WellOfTheSilent", "ofHill", "(IIII)I"⟩, 12) := ⟨⟨by decide +kernel, by decide +kernel⟩, lw_t1 (List.mem_of_getElem? (i := 30) rfl), lw_t1 (List.mem_of_getElem? (i := 205) rfl), lw_t1 (List.mem_of_getElem? (i := 206) rfl)⟩
theorem lw_p2 : lw_okq (⟨"WellOfTheSilent", "letterIt", "(I)I"⟩, 12) := ⟨⟨by decide +kernel, by decide +kernel⟩, lw_t1 (List.mem_of_getElem? (i := 30) rfl), lw_t1 (List.mem_of_getElem? (i := 209) rfl), lw_t1 (List.mem_of_getElem? (i := 210) rfl)⟩
theorem lw_p3 : lw_okq (⟨"java/lang/Throwable", "fillInStackTrace", "(I)Ljava/lang/Throwable;"⟩, 6) := ⟨⟨by decide +kernel, by decide +kernel⟩, lw_t2 (List.mem_of_getElem? (i := 18) rfl), lw_t2 (List.mem_of_getElem? (i := 16) rfl), lw_t2 (List.mem_of_getElem? (i := 17) rfl)⟩
theorem lw_p4 : lw_okq (⟨"WellOfTheSilent", "readHill", "()I"⟩, 12) := ⟨⟨by decide +kernel, by decide +kernel⟩, lw_t1 (List.mem_of_getElem? (i := 30) rfl), lw_t2 (List.mem_of_getElem? (i := 49) rfl), lw_t2 (List.mem_of_getElem? (i := 50) rfl)⟩
theorem lw_p5 : lw_okq (⟨"WellOfTheSilent$Reader", "here", "()I"⟩, 3) := ⟨⟨by decide +kernel, by decide +kernel⟩, lw_t2 (List.mem_of_getElem? (i := 53) rfl), lw_t2 (List.mem_of_getElem? (i := 77) rfl), lw_t2 (List.mem_of_getElem? (i := 78) rfl)⟩
theorem lw_p6 : lw_okq (⟨"WellOfTheSilent$Reader", "mustStand", "(Z)V"⟩, 3) := ⟨⟨by decide +kernel, by decide +kernel⟩, lw_t2 (List.mem_of_getElem? (i := 53) rfl), lw_t2 (List.mem_of_getElem? (i := 81) rfl), lw_t2 (List.mem_of_getElem? (i := 82) rfl)⟩
theorem lw_p7 : lw_okq (⟨"WellOfTheSilent$Reader", "personTold", "(I)LWellOfTheSilent$Told;"⟩, 3) := ⟨⟨by decide +kernel, by decide +kernel⟩, lw_t2 (List.mem_of_getElem? (i := 53) rfl), lw_t2 (List.mem_of_getElem? (i := 103) rfl), lw_t2 (List.mem_of_getElem? (i := 104) rfl)⟩
theorem lw_p8 : lw_okq (⟨"WellOfTheSilent", "kindOf", "(I)I"⟩, 12) := ⟨⟨by decide +kernel, by decide +kernel⟩, lw_t1 (List.mem_of_getElem? (i := 30) rfl), lw_t2 (List.mem_of_getElem? (i := 107) rfl), lw_t2 (List.mem_of_getElem? (i := 108) rfl)⟩
theorem lw_p9 : lw_okq (⟨"WellOfTheSilent$Reader", "digit", "()I"⟩, 3) := ⟨⟨by decide +kernel, by decide +kernel⟩, lw_t2 (List.mem_of_getElem? (i := 53) rfl), lw_t2 (List.mem_of_getElem? (i := 111) rfl), lw_t2 (List.mem_of_getElem? (i := 112) rfl)⟩
theorem lw_p10 : lw_okq (⟨"WellOfTheSilent$Reader", "told", "(II)LWellOfTheSilent$Told;"⟩, 3) := ⟨⟨by decide +kernel, by decide +kernel⟩, lw_t2 (List.mem_of_getElem? (i := 53) rfl), lw_t2 (List.mem_of_getElem? (i := 159) rfl), lw_t2 (List.mem_of_getElem? (i := 160) rfl)⟩
theorem lw_p11 : lw_okq (⟨"WellOfTheSilent$Reader", "pair", "()I"⟩, 3) := ⟨⟨by decide +kernel, by decide +kernel⟩, lw_t2 (List.mem_of_getElem? (i := 53) rfl), lw_t2 (List.mem_of_getElem? (i := 165) rfl), lw_t2 (List.mem_of_getElem? (i := 166) rfl)⟩
theorem lw_p12 : lw_okq (⟨"WellOfTheSilent$Reader", "take", "(I)V"⟩, 3) := ⟨⟨by decide +kernel, by decide +kernel⟩, lw_t2 (List.mem_of_getElem? (i := 53) rfl), lw_t2 (List.mem_of_getElem? (i := 233) rfl), lw_t2 (List.mem_of_getElem? (i := 234) rfl)⟩
theorem lw_p13 : lw_okq (⟨"WellOfTheSilent$Hill", "draw", "(I)V"⟩, 13) := ⟨⟨by decide +kernel, by decide +kernel⟩, lw_t1 (List.mem_of_getElem? (i := 85) rfl), lw_t3 (List.mem_of_getElem? (i := 93) rfl), lw_t3 (List.mem_of_getElem? (i := 94) rfl)⟩
theorem lw_p14 : lw_okq (⟨"WellOfTheSilent$Hill", "give", "(II)V"⟩, 13) := ⟨⟨by decide +kernel, by decide +kernel⟩, lw_t1 (List.mem_of_getElem? (i := 85) rfl), lw_t3 (List.mem_of_getElem? (i := 109) rfl), lw_t3 (List.mem_of_getElem? (i := 110) rfl)⟩
theorem lw_p15 : lw_okq (⟨"WellOfTheSilent", "personAsked", "(II)I"⟩, 12) := ⟨⟨by decide +kernel, by decide +kernel⟩, lw_t1 (List.mem_of_getElem? (i := 30) rfl), lw_t3 (List.mem_of_getElem? (i := 153) rfl), lw_t3 (List.mem_of_getElem? (i := 154) rfl)⟩
def lw_privs_1 : List (MethodName × Nat) := [(⟨"WellOfTheSilent", "act", "(IIII)I"⟩, 12), (⟨"WellOfTheSilent", "ofHill", "(IIII)I"⟩, 12), (⟨"WellOfTheSilent", "letterIt", "(I)I"⟩, 12), (⟨"java/lang/Throwable", "fillInStackTrace", "(I)Ljava/lang/Throwable;"⟩, 6), (⟨"WellOfTheSilent", "readHill", "()I"⟩, 12), (⟨"WellOfTheSilent$Reader", "here", "()I"⟩, 3), (⟨"WellOfTheSilent$Reader", "mustStand", "(Z)V"⟩, 3), (⟨"WellOfTheSilent$Reader", "personTold", "(I)LWellOfTheSilent$Told;"⟩, 3), (⟨"WellOfTheSilent", "kindOf", "(I)I"⟩, 12), (⟨"WellOfTheSilent$Reader", "digit", "()I"⟩, 3), (⟨"WellOfTheSilent$Reader", "told", "(II)LWellOfTheSilent$Told;"⟩, 3), (⟨"WellOfTheSilent$Reader", "pair", "()I"⟩, 3), (⟨"WellOfTheSilent$Reader", "take", "(I)V"⟩, 3), (⟨"WellOfTheSilent$Hill", "draw", "(I)V"⟩, 13), (⟨"WellOfTheSilent$Hill", "give", "(II)V"⟩, 13), (⟨"WellOfTheSilent", "personAsked", "(II)I"⟩, 12)]
theorem lw_r1 : ∀ q ∈ lw_privs_1, lw_okq q := List.forall_mem_cons.mpr ⟨lw_p0, List.forall_mem_cons.mpr ⟨lw_p1, List.forall_mem_cons.mpr ⟨lw_p2, List.forall_mem_cons.mpr ⟨lw_p3, List.forall_mem_cons.mpr ⟨lw_p4, List.forall_mem_cons.mpr ⟨lw_p5, List.forall_mem_cons.mpr ⟨lw_p6, List.forall_mem_cons.mpr ⟨lw_p7, List.forall_mem_cons.mpr ⟨lw_p8, List.forall_mem_cons.mpr ⟨lw_p9, List.forall_mem_cons.mpr ⟨lw_p10, List.forall_mem_cons.mpr ⟨lw_p11, List.forall_mem_cons.mpr ⟨lw_p12, List.forall_mem_cons.mpr ⟨lw_p13, List.forall_mem_cons.mpr ⟨lw_p14, List.forall_mem_cons.mpr ⟨lw_p15, fun _ h => absurd h List.not_mem_nil⟩⟩⟩⟩⟩⟩⟩⟩⟩⟩⟩⟩⟩⟩⟩⟩
theorem lw_p16 : lw_okq (⟨"WellOfTheSilent", "mustBePerson", "(I)V"⟩, 12) := ⟨⟨by decide +kernel, by decide +kernel⟩, lw_t1 (List.mem_of_getElem? (i := 30) rfl), lw_t3 (List.mem_of_getElem? (i := 157) rfl), lw_t3 (List.mem_of_getElem? (i := 158) rfl)⟩
theorem lw_p17 : lw_okq (⟨"WellOfTheSilent", "speakIt", "(I)I"⟩, 12) := ⟨⟨by decide +kernel, by decide +kernel⟩, lw_t1 (List.mem_of_getElem? (i := 30) rfl), lw_t3 (List.mem_of_getElem? (i := 190) rfl), lw_t3 (List.mem_of_getElem? (i := 191) rfl)⟩
theorem lw_p18 : lw_okq (⟨"WellOfTheSilent", "befriendIt", "(II)I"⟩, 12) := ⟨⟨by decide +kernel, by decide +kernel⟩, lw_t1 (List.mem_of_getElem? (i := 30) rfl), lw_t3 (List.mem_of_getElem? (i := 197) rfl), lw_t3 (List.mem_of_getElem? (i := 198) rfl)⟩
theorem lw_p19 : lw_okq (⟨"WellOfTheSilent", "becomes", "([IIII)I"⟩, 12) := ⟨⟨by decide +kernel, by decide +kernel⟩, lw_t1 (List.mem_of_getElem? (i := 30) rfl), lw_t3 (List.mem_of_getElem? (i := 201) rfl), lw_t3 (List.mem_of_getElem? (i := 202) rfl)⟩
theorem lw_p20 : lw_okq (⟨"WellOfTheSilent", "waterIt", "(I)I"⟩, 12) := ⟨⟨by decide +kernel, by decide +kernel⟩, lw_t1 (List.mem_of_getElem? (i := 30) rfl), lw_t3 (List.mem_of_getElem? (i := 205) rfl), lw_t3 (List.mem_of_getElem? (i := 206) rfl)⟩
theorem lw_p21 : lw_okq (⟨"WellOfTheSilent", "flowIt", "(I)I"⟩, 12) := ⟨⟨by decide +kernel, by decide +kernel⟩, lw_t1 (List.mem_of_getElem? (i := 30) rfl), lw_t3 (List.mem_of_getElem? (i := 210) rfl), lw_t3 (List.mem_of_getElem? (i := 211) rfl)⟩
theorem lw_p22 : lw_okq (⟨"WellOfTheSilent", "turnIt", "(III)I"⟩, 12) := ⟨⟨by decide +kernel, by decide +kernel⟩, lw_t1 (List.mem_of_getElem? (i := 30) rfl), lw_t3 (List.mem_of_getElem? (i := 215) rfl), lw_t3 (List.mem_of_getElem? (i := 216) rfl)⟩
theorem lw_p23 : lw_okq (⟨"WellOfTheSilent", "hoursIt", "(I)I"⟩, 12) := ⟨⟨by decide +kernel, by decide +kernel⟩, lw_t1 (List.mem_of_getElem? (i := 30) rfl), lw_t3 (List.mem_of_getElem? (i := 221) rfl), lw_t3 (List.mem_of_getElem? (i := 222) rfl)⟩
theorem lw_p24 : lw_okq (⟨"WellOfTheSilent", "ofHours", "(III)I"⟩, 12) := ⟨⟨by decide +kernel, by decide +kernel⟩, lw_t1 (List.mem_of_getElem? (i := 30) rfl), lw_t3 (List.mem_of_getElem? (i := 227) rfl), lw_t3 (List.mem_of_getElem? (i := 228) rfl)⟩
theorem lw_p25 : lw_okq (⟨"WellOfTheSilent", "hasAhead", "(II)I"⟩, 12) := ⟨⟨by decide +kernel, by decide +kernel⟩, lw_t1 (List.mem_of_getElem? (i := 30) rfl), lw_t3 (List.mem_of_getElem? (i := 231) rfl), lw_t3 (List.mem_of_getElem? (i := 232) rfl)⟩
theorem lw_p26 : lw_okq (⟨"WellOfTheSilent", "ahead", "(I)LWellOfTheSilent$Hill;"⟩, 12) := ⟨⟨by decide +kernel, by decide +kernel⟩, lw_t1 (List.mem_of_getElem? (i := 30) rfl), lw_t3 (List.mem_of_getElem? (i := 235) rfl), lw_t3 (List.mem_of_getElem? (i := 236) rfl)⟩
theorem lw_p27 : lw_okq (⟨"WellOfTheSilent", "openMind", "()LWellOfTheSilent$Hill;"⟩, 12) := ⟨⟨by decide +kernel, by decide +kernel⟩, lw_t1 (List.mem_of_getElem? (i := 30) rfl), lw_t3 (List.mem_of_getElem? (i := 239) rfl), lw_t4 (List.mem_of_getElem? (i := 0) rfl)⟩
theorem lw_p28 : lw_okq (⟨"WellOfTheSilent", "thenTold", "(II)I"⟩, 12) := ⟨⟨by decide +kernel, by decide +kernel⟩, lw_t1 (List.mem_of_getElem? (i := 30) rfl), lw_t4 (List.mem_of_getElem? (i := 3) rfl), lw_t4 (List.mem_of_getElem? (i := 4) rfl)⟩
theorem lw_p29 : lw_okq (⟨"WellOfTheSilent", "dryTold", "(I)I"⟩, 12) := ⟨⟨by decide +kernel, by decide +kernel⟩, lw_t1 (List.mem_of_getElem? (i := 30) rfl), lw_t4 (List.mem_of_getElem? (i := 12) rfl), lw_t4 (List.mem_of_getElem? (i := 13) rfl)⟩
theorem lw_p30 : lw_okq (⟨"WellOfTheSilent", "dryIn", "(I)I"⟩, 12) := ⟨⟨by decide +kernel, by decide +kernel⟩, lw_t1 (List.mem_of_getElem? (i := 30) rfl), lw_t4 (List.mem_of_getElem? (i := 17) rfl), lw_t4 (List.mem_of_getElem? (i := 18) rfl)⟩
theorem lw_p31 : lw_okq (⟨"WellOfTheSilent", "emptyIn", "()I"⟩, 12) := ⟨⟨by decide +kernel, by decide +kernel⟩, lw_t1 (List.mem_of_getElem? (i := 30) rfl), lw_t4 (List.mem_of_getElem? (i := 23) rfl), lw_t4 (List.mem_of_getElem? (i := 24) rfl)⟩
def lw_privs_2 : List (MethodName × Nat) := [(⟨"WellOfTheSilent", "mustBePerson", "(I)V"⟩, 12), (⟨"WellOfTheSilent", "speakIt", "(I)I"⟩, 12), (⟨"WellOfTheSilent", "befriendIt", "(II)I"⟩, 12), (⟨"WellOfTheSilent", "becomes", "([IIII)I"⟩, 12), (⟨"WellOfTheSilent", "waterIt", "(I)I"⟩, 12), (⟨"WellOfTheSilent", "flowIt", "(I)I"⟩, 12), (⟨"WellOfTheSilent", "turnIt", "(III)I"⟩, 12), (⟨"WellOfTheSilent", "hoursIt", "(I)I"⟩, 12), (⟨"WellOfTheSilent", "ofHours", "(III)I"⟩, 12), (⟨"WellOfTheSilent", "hasAhead", "(II)I"⟩, 12), (⟨"WellOfTheSilent", "ahead", "(I)LWellOfTheSilent$Hill;"⟩, 12), (⟨"WellOfTheSilent", "openMind", "()LWellOfTheSilent$Hill;"⟩, 12), (⟨"WellOfTheSilent", "thenTold", "(II)I"⟩, 12), (⟨"WellOfTheSilent", "dryTold", "(I)I"⟩, 12), (⟨"WellOfTheSilent", "dryIn", "(I)I"⟩, 12), (⟨"WellOfTheSilent", "emptyIn", "()I"⟩, 12)]
theorem lw_r2 : ∀ q ∈ lw_privs_2, lw_okq q := List.forall_mem_cons.mpr ⟨lw_p16, List.forall_mem_cons.mpr ⟨lw_p17, List.forall_mem_cons.mpr ⟨lw_p18, List.forall_mem_cons.mpr ⟨lw_p19, List.forall_mem_cons.mpr ⟨lw_p20, List.forall_mem_cons.mpr ⟨lw_p21, List.forall_mem_cons.mpr ⟨lw_p22, List.forall_mem_cons.mpr ⟨lw_p23, List.forall_mem_cons.mpr ⟨lw_p24, List.forall_mem_cons.mpr ⟨lw_p25, List.forall_mem_cons.mpr ⟨lw_p26, List.forall_mem_cons.mpr ⟨lw_p27, List.forall_mem_cons.mpr ⟨lw_p28, List.forall_mem_cons.mpr ⟨lw_p29, List.forall_mem_cons.mpr ⟨lw_p30, List.forall_mem_cons.mpr ⟨lw_p31, fun _ h => absurd h List.not_mem_nil⟩⟩⟩⟩⟩⟩⟩⟩⟩⟩⟩⟩⟩⟩⟩⟩
theorem lw_p32 : lw_okq (⟨"WellOfTheSilent", "leastFlow", "(I)I"⟩, 12) := ⟨⟨by decide +kernel, by decide +kernel⟩, lw_t1 (List.mem_of_getElem? (i := 30) rfl), lw_t4 (List.mem_of_getElem? (i := 31) rfl), lw_t4 (List.mem_of_getElem? (i := 32) rfl)⟩
theorem lw_p33 : lw_okq (⟨"WellOfTheSilent", "canTold", "(II)I"⟩, 12) := ⟨⟨by decide +kernel, by decide +kernel⟩, lw_t1 (List.mem_of_getElem? (i := 30) rfl), lw_t4 (List.mem_of_getElem? (i := 43) rfl), lw_t4 (List.mem_of_getElem? (i := 44) rfl)⟩
theorem lw_p34 : lw_okq (⟨"WellOfTheSilent", "leastCan", "(II)I"⟩, 12) := ⟨⟨by decide +kernel, by decide +kernel⟩, lw_t1 (List.mem_of_getElem? (i := 30) rfl), lw_t4 (List.mem_of_getElem? (i := 47) rfl), lw_t4 (List.mem_of_getElem? (i := 48) rfl)⟩
theorem lw_p35 : lw_okq (⟨"WellOfTheSilent", "friendTold", "(II)I"⟩, 12) := ⟨⟨by decide +kernel, by decide +kernel⟩, lw_t1 (List.mem_of_getElem? (i := 30) rfl), lw_t4 (List.mem_of_getElem? (i := 55) rfl), lw_t4 (List.mem_of_getElem? (i := 56) rfl)⟩
theorem lw_p36 : lw_okq (⟨"WellOfTheSilent", "bestFriend", "(II)I"⟩, 12) := ⟨⟨by decide +kernel, by decide +kernel⟩, lw_t1 (List.mem_of_getElem? (i := 30) rfl), lw_t4 (List.mem_of_getElem? (i := 59) rfl), lw_t4 (List.mem_of_getElem? (i := 60) rfl)⟩
theorem lw_p37 : lw_okq (⟨"WellOfTheSilent", "bestHushed", "(I)I"⟩, 12) := ⟨⟨by decide +kernel, by decide +kernel⟩, lw_t1 (List.mem_of_getElem? (i := 30) rfl), lw_t4 (List.mem_of_getElem? (i := 68) rfl), lw_t4 (List.mem_of_getElem? (i := 69) rfl)⟩
theorem lw_p38 : lw_okq (⟨"WellOfTheSilent", "fewestTold", "(I)I"⟩, 12) := ⟨⟨by decide +kernel, by decide +kernel⟩, lw_t1 (List.mem_of_getElem? (i := 30) rfl), lw_t4 (List.mem_of_getElem? (i := 72) rfl), lw_t4 (List.mem_of_getElem? (i := 73) rfl)⟩
theorem lw_p39 : lw_okq (⟨"WellOfTheSilent", "fewestHushed", "(I)I"⟩, 12) := ⟨⟨by decide +kernel, by decide +kernel⟩, lw_t1 (List.mem_of_getElem? (i := 30) rfl), lw_t4 (List.mem_of_getElem? (i := 77) rfl), lw_t4 (List.mem_of_getElem? (i := 78) rfl)⟩
theorem lw_p40 : lw_okq (⟨"WellOfTheSilent", "wordTold", "(I)I"⟩, 12) := ⟨⟨by decide +kernel, by decide +kernel⟩, lw_t1 (List.mem_of_getElem? (i := 30) rfl), lw_t4 (List.mem_of_getElem? (i := 81) rfl), lw_t4 (List.mem_of_getElem? (i := 82) rfl)⟩
theorem lw_p41 : lw_okq (⟨"WellOfTheSilent", "worstWord", "(I)I"⟩, 12) := ⟨⟨by decide +kernel, by decide +kernel⟩, lw_t1 (List.mem_of_getElem? (i := 30) rfl), lw_t4 (List.mem_of_getElem? (i := 85) rfl), lw_t4 (List.mem_of_getElem? (i := 86) rfl)⟩
theorem lw_p42 : lw_okq (⟨"WellOfTheSilent", "sendTold", "(II)I"⟩, 12) := ⟨⟨by decide +kernel, by decide +kernel⟩, lw_t1 (List.mem_of_getElem? (i := 30) rfl), lw_t4 (List.mem_of_getElem? (i := 89) rfl), lw_t4 (List.mem_of_getElem? (i := 90) rfl)⟩
theorem lw_p43 : lw_okq (⟨"WellOfTheSilent", "ofRest", "(IIII)I"⟩, 12) := ⟨⟨by decide +kernel, by decide +kernel⟩, lw_t1 (List.mem_of_getElem? (i := 30) rfl), lw_t4 (List.mem_of_getElem? (i := 97) rfl), lw_t4 (List.mem_of_getElem? (i := 98) rfl)⟩
theorem lw_p44 : lw_okq (⟨"WellOfTheSilent", "nextDrawing", "()I"⟩, 12) := ⟨⟨by decide +kernel, by decide +kernel⟩, lw_t1 (List.mem_of_getElem? (i := 30) rfl), lw_t4 (List.mem_of_getElem? (i := 101) rfl), lw_t4 (List.mem_of_getElem? (i := 102) rfl)⟩
theorem lw_p45 : lw_okq (⟨"WellOfTheSilent", "richestTold", "(I)I"⟩, 12) := ⟨⟨by decide +kernel, by decide +kernel⟩, lw_t1 (List.mem_of_getElem? (i := 30) rfl), lw_t4 (List.mem_of_getElem? (i := 105) rfl), lw_t4 (List.mem_of_getElem? (i := 106) rfl)⟩
theorem lw_p46 : lw_okq (⟨"WellOfTheSilent", "quietTold", "(I)I"⟩, 12) := ⟨⟨by decide +kernel, by decide +kernel⟩, lw_t1 (List.mem_of_getElem? (i := 30) rfl), lw_t4 (List.mem_of_getElem? (i := 110) rfl), lw_t4 (List.mem_of_getElem? (i := 111) rfl)⟩
theorem lw_p47 : lw_okq (⟨"WellOfTheSilent", "quietIn", "(I)I"⟩, 12) := ⟨⟨by decide +kernel, by decide +kernel⟩, lw_t1 (List.mem_of_getElem? (i := 30) rfl), lw_t4 (List.mem_of_getElem? (i := 115) rfl), lw_t4 (List.mem_of_getElem? (i := 116) rfl)⟩
def lw_privs_3 : List (MethodName × Nat) := [(⟨"WellOfTheSilent", "leastFlow", "(I)I"⟩, 12), (⟨"WellOfTheSilent", "canTold", "(II)I"⟩, 12), (⟨"WellOfTheSilent", "leastCan", "(II)I"⟩, 12), (⟨"WellOfTheSilent", "friendTold", "(II)I"⟩, 12), (⟨"WellOfTheSilent", "bestFriend", "(II)I"⟩, 12), (⟨"WellOfTheSilent", "bestHushed", "(I)I"⟩, 12), (⟨"WellOfTheSilent", "fewestTold", "(I)I"⟩, 12), (⟨"WellOfTheSilent", "fewestHushed", "(I)I"⟩, 12), (⟨"WellOfTheSilent", "wordTold", "(I)I"⟩, 12), (⟨"WellOfTheSilent", "worstWord", "(I)I"⟩, 12), (⟨"WellOfTheSilent", "sendTold", "(II)I"⟩, 12), (⟨"WellOfTheSilent", "ofRest", "(IIII)I"⟩, 12), (⟨"WellOfTheSilent", "nextDrawing", "()I"⟩, 12), (⟨"WellOfTheSilent", "richestTold", "(I)I"⟩, 12), (⟨"WellOfTheSilent", "quietTold", "(I)I"⟩, 12), (⟨"WellOfTheSilent", "quietIn", "(I)I"⟩, 12)]
theorem lw_r3 : ∀ q ∈ lw_privs_3, lw_okq q := List.forall_mem_cons.mpr ⟨lw_p32, List.forall_mem_cons.mpr ⟨lw_p33, List.forall_mem_cons.mpr ⟨lw_p34, List.forall_mem_cons.mpr ⟨lw_p35, List.forall_mem_cons.mpr ⟨lw_p36, List.forall_mem_cons.mpr ⟨lw_p37, List.forall_mem_cons.mpr ⟨lw_p38, List.forall_mem_cons.mpr ⟨lw_p39, List.forall_mem_cons.mpr ⟨lw_p40, List.forall_mem_cons.mpr ⟨lw_p41, List.forall_mem_cons.mpr ⟨lw_p42, List.forall_mem_cons.mpr ⟨lw_p43, List.forall_mem_cons.mpr ⟨lw_p44, List.forall_mem_cons.mpr ⟨lw_p45, List.forall_mem_cons.mpr ⟨lw_p46, List.forall_mem_cons.mpr ⟨lw_p47, fun _ h => absurd h List.not_mem_nil⟩⟩⟩⟩⟩⟩⟩⟩⟩⟩⟩⟩⟩⟩⟩⟩
theorem lw_p48 : lw_okq (⟨"WellOfTheSilent", "allDrink", "()I"⟩, 12) := ⟨⟨by decide +kernel, by decide +kernel⟩, lw_t1 (List.mem_of_getElem? (i := 30) rfl), lw_t4 (List.mem_of_getElem? (i := 119) rfl), lw_t4 (List.mem_of_getElem? (i := 120) rfl)⟩
theorem lw_p49 : lw_okq (⟨"WellOfTheSilent", "lastsTold", "(I)I"⟩, 12) := ⟨⟨by decide +kernel, by decide +kernel⟩, lw_t1 (List.mem_of_getElem? (i := 30) rfl), lw_t4 (List.mem_of_getElem? (i := 123) rfl), lw_t4 (List.mem_of_getElem? (i := 124) rfl)⟩
theorem lw_p50 : lw_okq (⟨"WellOfTheSilent", "carriesTold", "(I)I"⟩, 12) := ⟨⟨by decide +kernel, by decide +kernel⟩, lw_t1 (List.mem_of_getElem? (i := 30) rfl), lw_t4 (List.mem_of_getElem? (i := 127) rfl), lw_t4 (List.mem_of_getElem? (i := 128) rfl)⟩
theorem lw_p51 : lw_okq (⟨"WellOfTheSilent", "twoTold", "(III)I"⟩, 12) := ⟨⟨by decide +kernel, by decide +kernel⟩, lw_t1 (List.mem_of_getElem? (i := 30) rfl), lw_t4 (List.mem_of_getElem? (i := 131) rfl), lw_t4 (List.mem_of_getElem? (i := 132) rfl)⟩
theorem lw_p52 : lw_okq (⟨"WellOfTheSilent", "restingWords", "(III)I"⟩, 12) := ⟨⟨by decide +kernel, by decide +kernel⟩, lw_t1 (List.mem_of_getElem? (i := 30) rfl), lw_t4 (List.mem_of_getElem? (i := 135) rfl), lw_t4 (List.mem_of_getElem? (i := 136) rfl)⟩
theorem lw_p53 : lw_okq (⟨"WellOfTheSilent", "whatTold", "(II)I"⟩, 12) := ⟨⟨by decide +kernel, by decide +kernel⟩, lw_t1 (List.mem_of_getElem? (i := 30) rfl), lw_t4 (List.mem_of_getElem? (i := 139) rfl), lw_t4 (List.mem_of_getElem? (i := 140) rfl)⟩
theorem lw_p54 : lw_okq (⟨"WellOfTheSilent", "fitting", "(II)I"⟩, 12) := ⟨⟨by decide +kernel, by decide +kernel⟩, lw_t1 (List.mem_of_getElem? (i := 30) rfl), lw_t4 (List.mem_of_getElem? (i := 143) rfl), lw_t4 (List.mem_of_getElem? (i := 144) rfl)⟩
theorem lw_p55 : lw_okq (⟨"WellOfTheSilent", "isRow", "(LWellOfTheSilent$Hill;I)Z"⟩, 12) := ⟨⟨by decide +kernel, by decide +kernel⟩, lw_t1 (List.mem_of_getElem? (i := 30) rfl), lw_t4 (List.mem_of_getElem? (i := 147) rfl), lw_t4 (List.mem_of_getElem? (i := 148) rfl)⟩
theorem lw_p56 : lw_okq (⟨"WellOfTheSilent", "ofLast", "(IIII)I"⟩, 12) := ⟨⟨by decide +kernel, by decide +kernel⟩, lw_t1 (List.mem_of_getElem? (i := 30) rfl), lw_t4 (List.mem_of_getElem? (i := 151) rfl), lw_t4 (List.mem_of_getElem? (i := 152) rfl)⟩
theorem lw_p57 : lw_okq (⟨"WellOfTheSilent", "judgeRow", "()I"⟩, 12) := ⟨⟨by decide +kernel, by decide +kernel⟩, lw_t1 (List.mem_of_getElem? (i := 30) rfl), lw_t4 (List.mem_of_getElem? (i := 155) rfl), lw_t4 (List.mem_of_getElem? (i := 156) rfl)⟩
theorem lw_p58 : lw_okq (⟨"WellOfTheSilent", "lotsTold", "(III)I"⟩, 12) := ⟨⟨by decide +kernel, by decide +kernel⟩, lw_t1 (List.mem_of_getElem? (i := 30) rfl), lw_t4 (List.mem_of_getElem? (i := 159) rfl), lw_t4 (List.mem_of_getElem? (i := 160) rfl)⟩
theorem lw_p59 : lw_okq (⟨"WellOfTheSilent", "byLots", "(III)I"⟩, 12) := ⟨⟨by decide +kernel, by decide +kernel⟩, lw_t1 (List.mem_of_getElem? (i := 30) rfl), lw_t4 (List.mem_of_getElem? (i := 164) rfl), lw_t4 (List.mem_of_getElem? (i := 165) rfl)⟩
theorem lw_p60 : lw_okq (⟨"WellOfTheSilent", "refuse", "(I)I"⟩, 12) := ⟨⟨by decide +kernel, by decide +kernel⟩, lw_t1 (List.mem_of_getElem? (i := 30) rfl), lw_t4 (List.mem_of_getElem? (i := 180) rfl), lw_t4 (List.mem_of_getElem? (i := 181) rfl)⟩
theorem lw_p61 : lw_okq (⟨"WellOfTheSilent", "sneezeTold", "(IIIII)J"⟩, 12) := ⟨⟨by decide +kernel, by decide +kernel⟩, lw_t1 (List.mem_of_getElem? (i := 30) rfl), lw_t5 (List.mem_of_getElem? (i := 60) rfl), lw_t5 (List.mem_of_getElem? (i := 61) rfl)⟩
theorem lw_p62 : lw_okq (⟨"WellOfTheSilent", "sneezePart", "(IIIII)J"⟩, 12) := ⟨⟨by decide +kernel, by decide +kernel⟩, lw_t1 (List.mem_of_getElem? (i := 30) rfl), lw_t5 (List.mem_of_getElem? (i := 64) rfl), lw_t5 (List.mem_of_getElem? (i := 65) rfl)⟩
theorem lw_p63 : lw_okq (⟨"WellOfTheSilent", "far", "(LWellOfTheSilent$Refusal;)J"⟩, 12) := ⟨⟨by decide +kernel, by decide +kernel⟩, lw_t1 (List.mem_of_getElem? (i := 30) rfl), lw_t5 (List.mem_of_getElem? (i := 74) rfl), lw_t5 (List.mem_of_getElem? (i := 75) rfl)⟩
def lw_privs_4 : List (MethodName × Nat) := [(⟨"WellOfTheSilent", "allDrink", "()I"⟩, 12), (⟨"WellOfTheSilent", "lastsTold", "(I)I"⟩, 12), (⟨"WellOfTheSilent", "carriesTold", "(I)I"⟩, 12), (⟨"WellOfTheSilent", "twoTold", "(III)I"⟩, 12), (⟨"WellOfTheSilent", "restingWords", "(III)I"⟩, 12), (⟨"WellOfTheSilent", "whatTold", "(II)I"⟩, 12), (⟨"WellOfTheSilent", "fitting", "(II)I"⟩, 12), (⟨"WellOfTheSilent", "isRow", "(LWellOfTheSilent$Hill;I)Z"⟩, 12), (⟨"WellOfTheSilent", "ofLast", "(IIII)I"⟩, 12), (⟨"WellOfTheSilent", "judgeRow", "()I"⟩, 12), (⟨"WellOfTheSilent", "lotsTold", "(III)I"⟩, 12), (⟨"WellOfTheSilent", "byLots", "(III)I"⟩, 12), (⟨"WellOfTheSilent", "refuse", "(I)I"⟩, 12), (⟨"WellOfTheSilent", "sneezeTold", "(IIIII)J"⟩, 12), (⟨"WellOfTheSilent", "sneezePart", "(IIIII)J"⟩, 12), (⟨"WellOfTheSilent", "far", "(LWellOfTheSilent$Refusal;)J"⟩, 12)]
theorem lw_r4 : ∀ q ∈ lw_privs_4, lw_okq q := List.forall_mem_cons.mpr ⟨lw_p48, List.forall_mem_cons.mpr ⟨lw_p49, List.forall_mem_cons.mpr ⟨lw_p50, List.forall_mem_cons.mpr ⟨lw_p51, List.forall_mem_cons.mpr ⟨lw_p52, List.forall_mem_cons.mpr ⟨lw_p53, List.forall_mem_cons.mpr ⟨lw_p54, List.forall_mem_cons.mpr ⟨lw_p55, List.forall_mem_cons.mpr ⟨lw_p56, List.forall_mem_cons.mpr ⟨lw_p57, List.forall_mem_cons.mpr ⟨lw_p58, List.forall_mem_cons.mpr ⟨lw_p59, List.forall_mem_cons.mpr ⟨lw_p60, List.forall_mem_cons.mpr ⟨lw_p61, List.forall_mem_cons.mpr ⟨lw_p62, List.forall_mem_cons.mpr ⟨lw_p63, fun _ h => absurd h List.not_mem_nil⟩⟩⟩⟩⟩⟩⟩⟩⟩⟩⟩⟩⟩⟩⟩⟩
theorem lw_p64 : lw_okq (⟨"WellOfTheSilent", "meanTold", "(I)J"⟩, 12) := ⟨⟨by decide +kernel, by decide +kernel⟩, lw_t1 (List.mem_of_getElem? (i := 30) rfl), lw_t5 (List.mem_of_getElem? (i := 83) rfl), lw_t5 (List.mem_of_getElem? (i := 84) rfl)⟩
theorem lw_p65 : lw_okq (⟨"WellOfTheSilentModel", "no", "(I)I"⟩, 13) := ⟨⟨by decide +kernel, by decide +kernel⟩, lw_t5 (List.mem_of_getElem? (i := 120) rfl), lw_t5 (List.mem_of_getElem? (i := 170) rfl), lw_t5 (List.mem_of_getElem? (i := 171) rfl)⟩
theorem lw_p66 : lw_okq (⟨"WellOfTheSilentModel", "readsStatement", "()Z"⟩, 13) := ⟨⟨by decide +kernel, by decide +kernel⟩, lw_t5 (List.mem_of_getElem? (i := 120) rfl), lw_t5 (List.mem_of_getElem? (i := 178) rfl), lw_t5 (List.mem_of_getElem? (i := 179) rfl)⟩
theorem lw_p67 : lw_okq (⟨"WellOfTheSilentModel", "here", "()I"⟩, 13) := ⟨⟨by decide +kernel, by decide +kernel⟩, lw_t5 (List.mem_of_getElem? (i := 120) rfl), lw_t5 (List.mem_of_getElem? (i := 182) rfl), lw_t5 (List.mem_of_getElem? (i := 183) rfl)⟩
theorem lw_p68 : lw_okq (⟨"WellOfTheSilentModel", "readsKind", "()Z"⟩, 13) := ⟨⟨by decide +kernel, by decide +kernel⟩, lw_t5 (List.mem_of_getElem? (i := 120) rfl), lw_t5 (List.mem_of_getElem? (i := 186) rfl), lw_t5 (List.mem_of_getElem? (i := 187) rfl)⟩
theorem lw_p69 : lw_okq (⟨"WellOfTheSilentModel", "readsNumber", "(II)Z"⟩, 13) := ⟨⟨by decide +kernel, by decide +kernel⟩, lw_t5 (List.mem_of_getElem? (i := 120) rfl), lw_t5 (List.mem_of_getElem? (i := 193) rfl), lw_t5 (List.mem_of_getElem? (i := 194) rfl)⟩
theorem lw_p70 : lw_okq (⟨"WellOfTheSilentModel", "isDone", "(I)Z"⟩, 13) := ⟨⟨by decide +kernel, by decide +kernel⟩, lw_t5 (List.mem_of_getElem? (i := 120) rfl), lw_t5 (List.mem_of_getElem? (i := 203) rfl), lw_t5 (List.mem_of_getElem? (i := 204) rfl)⟩
theorem lw_p71 : lw_okq (⟨"WellOfTheSilentModel", "addsPerson", "()Z"⟩, 13) := ⟨⟨by decide +kernel, by decide +kernel⟩, lw_t5 (List.mem_of_getElem? (i := 120) rfl), lw_t5 (List.mem_of_getElem? (i := 207) rfl), lw_t5 (List.mem_of_getElem? (i := 208) rfl)⟩
theorem lw_p72 : lw_okq (⟨"WellOfTheSilentModel", "isPerson", "(I)Z"⟩, 13) := ⟨⟨by decide +kernel, by decide +kernel⟩, lw_t5 (List.mem_of_getElem? (i := 120) rfl), lw_t5 (List.mem_of_getElem? (i := 214) rfl), lw_t5 (List.mem_of_getElem? (i := 215) rfl)⟩
theorem lw_p73 : lw_okq (⟨"WellOfTheSilentModel", "sets", "(II)I"⟩, 13) := ⟨⟨by decide +kernel, by decide +kernel⟩, lw_t5 (List.mem_of_getElem? (i := 120) rfl), lw_t6 (List.mem_of_getElem? (i := 23) rfl), lw_t6 (List.mem_of_getElem? (i := 24) rfl)⟩
theorem lw_p74 : lw_okq (⟨"WellOfTheSilentModel", "setsOf", "(IIII)I"⟩, 13) := ⟨⟨by decide +kernel, by decide +kernel⟩, lw_t5 (List.mem_of_getElem? (i := 120) rfl), lw_t6 (List.mem_of_getElem? (i := 31) rfl), lw_t6 (List.mem_of_getElem? (i := 32) rfl)⟩
theorem lw_p75 : lw_okq (⟨"WellOfTheSilentModel", "setsIn", "(III)I"⟩, 13) := ⟨⟨by decide +kernel, by decide +kernel⟩, lw_t5 (List.mem_of_getElem? (i := 120) rfl), lw_t6 (List.mem_of_getElem? (i := 46) rfl), lw_t6 (List.mem_of_getElem? (i := 47) rfl)⟩
theorem lw_p76 : lw_okq (⟨"WellOfTheSilentModel", "takes", "(I)V"⟩, 13) := ⟨⟨by decide +kernel, by decide +kernel⟩, lw_t5 (List.mem_of_getElem? (i := 120) rfl), lw_t6 (List.mem_of_getElem? (i := 66) rfl), lw_t6 (List.mem_of_getElem? (i := 67) rfl)⟩
theorem lw_p77 : lw_okq (⟨"WellOfTheSilentModel", "firstDry", "()I"⟩, 13) := ⟨⟨by decide +kernel, by decide +kernel⟩, lw_t5 (List.mem_of_getElem? (i := 120) rfl), lw_t6 (List.mem_of_getElem? (i := 81) rfl), lw_t6 (List.mem_of_getElem? (i := 82) rfl)⟩
theorem lw_p78 : lw_okq (⟨"WellOfTheSilentModel", "whenNothing", "(I)I"⟩, 13) := ⟨⟨by decide +kernel, by decide +kernel⟩, lw_t5 (List.mem_of_getElem? (i := 120) rfl), lw_t6 (List.mem_of_getElem? (i := 86) rfl), lw_t6 (List.mem_of_getElem? (i := 87) rfl)⟩
theorem lw_p79 : lw_okq (⟨"WellOfTheSilentModel", "isNoneDry", "(II)Z"⟩, 13) := ⟨⟨by decide +kernel, by decide +kernel⟩, lw_t5 (List.mem_of_getElem? (i := 120) rfl), lw_t6 (List.mem_of_getElem? (i := 98) rfl), lw_t6 (List.mem_of_getElem? (i := 99) rfl)⟩
def lw_privs_5 : List (MethodName × Nat) := [(⟨"WellOfTheSilent", "meanTold", "(I)J"⟩, 12), (⟨"WellOfTheSilentModel", "no", "(I)I"⟩, 13), (⟨"WellOfTheSilentModel", "readsStatement", "()Z"⟩, 13), (⟨"WellOfTheSilentModel", "here", "()I"⟩, 13), (⟨"WellOfTheSilentModel", "readsKind", "()Z"⟩, 13), (⟨"WellOfTheSilentModel", "readsNumber", "(II)Z"⟩, 13), (⟨"WellOfTheSilentModel", "isDone", "(I)Z"⟩, 13), (⟨"WellOfTheSilentModel", "addsPerson", "()Z"⟩, 13), (⟨"WellOfTheSilentModel", "isPerson", "(I)Z"⟩, 13), (⟨"WellOfTheSilentModel", "sets", "(II)I"⟩, 13), (⟨"WellOfTheSilentModel", "setsOf", "(IIII)I"⟩, 13), (⟨"WellOfTheSilentModel", "setsIn", "(III)I"⟩, 13), (⟨"WellOfTheSilentModel", "takes", "(I)V"⟩, 13), (⟨"WellOfTheSilentModel", "firstDry", "()I"⟩, 13), (⟨"WellOfTheSilentModel", "whenNothing", "(I)I"⟩, 13), (⟨"WellOfTheSilentModel", "isNoneDry", "(II)Z"⟩, 13)]
theorem lw_r5 : ∀ q ∈ lw_privs_5, lw_okq q := List.forall_mem_cons.mpr ⟨lw_p64, List.forall_mem_cons.mpr ⟨lw_p65, List.forall_mem_cons.mpr ⟨lw_p66, List.forall_mem_cons.mpr ⟨lw_p67, List.forall_mem_cons.mpr ⟨lw_p68, List.forall_mem_cons.mpr ⟨lw_p69, List.forall_mem_cons.mpr ⟨lw_p70, List.forall_mem_cons.mpr ⟨lw_p71, List.forall_mem_cons.mpr ⟨lw_p72, List.forall_mem_cons.mpr ⟨lw_p73, List.forall_mem_cons.mpr ⟨lw_p74, List.forall_mem_cons.mpr ⟨lw_p75, List.forall_mem_cons.mpr ⟨lw_p76, List.forall_mem_cons.mpr ⟨lw_p77, List.forall_mem_cons.mpr ⟨lw_p78, List.forall_mem_cons.mpr ⟨lw_p79, fun _ h => absurd h List.not_mem_nil⟩⟩⟩⟩⟩⟩⟩⟩⟩⟩⟩⟩⟩⟩⟩⟩
theorem lw_p80 : lw_okq (⟨"WellOfTheSilentModel", "extreme", "(IZ)I"⟩, 13) := ⟨⟨by decide +kernel, by decide +kernel⟩, lw_t5 (List.mem_of_getElem? (i := 120) rfl), lw_t6 (List.mem_of_getElem? (i := 140) rfl), lw_t6 (List.mem_of_getElem? (i := 141) rfl)⟩
theorem lw_p81 : lw_okq (⟨"WellOfTheSilentModel", "hasBy", "(IIIIII)I"⟩, 13) := ⟨⟨by decide +kernel, by decide +kernel⟩, lw_t5 (List.mem_of_getElem? (i := 120) rfl), lw_t6 (List.mem_of_getElem? (i := 164) rfl), lw_t6 (List.mem_of_getElem? (i := 165) rfl)⟩
theorem lw_p82 : lw_okq (⟨"WellOfTheSilentModel", "noWide", "(I)J"⟩, 13) := ⟨⟨by decide +kernel, by decide +kernel⟩, lw_t5 (List.mem_of_getElem? (i := 120) rfl), lw_t6 (List.mem_of_getElem? (i := 172) rfl), lw_t6 (List.mem_of_getElem? (i := 173) rfl)⟩
theorem lw_p83 : lw_okq (⟨"WellOfTheSilentModel", "drawn", "(I)I"⟩, 13) := ⟨⟨by decide +kernel, by decide +kernel⟩, lw_t5 (List.mem_of_getElem? (i := 120) rfl), lw_t6 (List.mem_of_getElem? (i := 207) rfl), lw_t6 (List.mem_of_getElem? (i := 208) rfl)⟩
def lw_privs_6 : List (MethodName × Nat) := [(⟨"WellOfTheSilentModel", "extreme", "(IZ)I"⟩, 13), (⟨"WellOfTheSilentModel", "hasBy", "(IIIIII)I"⟩, 13), (⟨"WellOfTheSilentModel", "noWide", "(I)J"⟩, 13), (⟨"WellOfTheSilentModel", "drawn", "(I)I"⟩, 13)]
theorem lw_r6 : ∀ q ∈ lw_privs_6, lw_okq q := List.forall_mem_cons.mpr ⟨lw_p80, List.forall_mem_cons.mpr ⟨lw_p81, List.forall_mem_cons.mpr ⟨lw_p82, List.forall_mem_cons.mpr ⟨lw_p83, fun _ h => absurd h List.not_mem_nil⟩⟩⟩⟩
def lw_privs : List (MethodName × Nat) := lw_privs_1 ++ (lw_privs_2 ++ (lw_privs_3 ++ (lw_privs_4 ++ (lw_privs_5 ++ (lw_privs_6)))))
def lw_tbl : List Cond := k2_sels lw_privs ++ tables_1
theorem lw_privs_ok : ∀ q ∈ lw_privs, lw_okq q := by
  show ∀ q ∈ lw_privs_1 ++ (lw_privs_2 ++ (lw_privs_3 ++ (lw_privs_4 ++ (lw_privs_5 ++ (lw_privs_6))))), lw_okq q
  exact List.forall_mem_append.mpr ⟨lw_r1, List.forall_mem_append.mpr ⟨lw_r2, List.forall_mem_append.mpr ⟨lw_r3, List.forall_mem_append.mpr ⟨lw_r4, List.forall_mem_append.mpr ⟨lw_r5, lw_r6⟩⟩⟩⟩⟩
-- ===== ONE list of words for every method: the tables' words that hold all through a run =====
def lw_all : List Cond := lw_tbl.filter goodWord
/-- a word of the tables by its place: claim/WORDS.tsv -/
theorem lw_w {w : Cond} (i : Nat) (h : lw_tbl[i]? = some w) (g : goodWord w = true) : w ∈ lw_all := List.mem_filter.mpr ⟨List.mem_of_getElem? h, g⟩
theorem lw_all_tbl {w : Cond} (h : w ∈ lw_all) : w ∈ lw_tbl := (List.mem_filter.mp h).1
theorem lw_self : GoodIn lw_all lw_all := fun w h => ⟨h, good_of_word (List.mem_filter.mp h).2⟩
/-- a class's field words, by their places -/
theorem lw_in (ws : List Cond) (ps : List Nat) (hp : ws = ps.filterMap (fun i => lw_tbl[i]?)) (hg : ws.all goodWord = true) : ∀ w ∈ ws, w ∈ lw_all := by
  intro w h
  have h1 := List.all_eq_true.mp hg w h
  rw [hp] at h
  obtain ⟨i, -, hi⟩ := List.mem_filterMap.mp h
  exact lw_w i hi h1
/-- the words of a contract for the method y with code b, L locals, answer r -/
abbrev ws_ (y : MethodName) (b : ByteArray) (L : Nat) (r : Option FieldType) : List Cond := Cond.code y b L r :: lw_all
theorem lw_meth {y : MethodName} {b : ByteArray} {L : Nat} {r : Option FieldType} (h : Cond.code y b L r ∈ lw_all) : GoodIn lw_all (ws_ y b L r) := by
  intro w hw
  rcases List.mem_cons.mp hw with e | e
  · rw [e]
    exact lw_self _ h
  · exact lw_self _ e
theorem lw_app {a c : List Cond} (ha : ∀ w ∈ a, w ∈ lw_all) (hc : GoodIn lw_all c) : GoodIn lw_all (a ++ c) := by
  intro w hw
  rcases List.mem_append.mp hw with e | e
  · exact lw_self w (ha w e)
  · exact hc w e
/-- what a call through an object asks: cwV n hts (lw_V ..) -/
theorem lw_V {own : String} {idx : Nat} {C : String} {y : MethodName} {b : ByteArray} {L : Nat} {r : Option FieldType} (h1 : Cond.methodLink own idx y ∈ lw_all) (h2 : Cond.instanceMethod y ∈ lw_all) (h3 : Cond.selects C y y ∈ lw_all) (h4 : Cond.initialized C ∈ lw_all) (h5 : Cond.code y b L r ∈ lw_all) : GoodIn lw_all (wsV own idx C y (ws_ y b L r)) := by
  refine lw_app ?_ (lw_meth h5)
  intro w hw
  simp only [List.mem_cons, List.not_mem_nil, or_false] at hw
  rcases hw with e | e | e | e
  · rw [e]; exact h1
  · rw [e]; exact h2
  · rw [e]; exact h3
  · rw [e]; exact h4
/-- what a static call asks: va_cwS n hts (lw_S ..) -/
theorem lw_S {own : String} {idx : Nat} {y : MethodName} {b : ByteArray} {L : Nat} {r : Option FieldType} (h1 : Cond.methodLink own idx y ∈ lw_all) (h2 : Cond.static y ∈ lw_all) (h3 : Cond.initialized y.cls ∈ lw_all) (h4 : Cond.code y b L r ∈ lw_all) : GoodIn lw_all (va_wsS own idx y (ws_ y b L r)) := by
  refine lw_app ?_ (lw_meth h4)
  intro w hw
  simp only [List.mem_cons, List.not_mem_nil, or_false] at hw
  rcases hw with e | e | e
  · rw [e]; exact h1
  · rw [e]; exact h2
  · rw [e]; exact h3
/-- the words of a contract for a method WITH HANDLERS (hh: its table) -/
abbrev wsW_ (y : MethodName) (b : ByteArray) (L : Nat) (r : Option FieldType) (hh : List (Nat × Nat × Nat × Nat)) : List Cond := Cond.codeWith y b L r hh :: lw_all
theorem lw_methW {y : MethodName} {b : ByteArray} {L : Nat} {r : Option FieldType} {hh : List (Nat × Nat × Nat × Nat)} (h : Cond.codeWith y b L r hh ∈ lw_all) : GoodIn lw_all (wsW_ y b L r hh) := by
  intro w hw
  rcases List.mem_cons.mp hw with e | e
  · rw [e]
    exact lw_self _ h
  · exact lw_self _ e
/-- any list of words by their places (lw_in), good -/
theorem lw_good {ws : List Cond} (h : ∀ w ∈ ws, w ∈ lw_all) : GoodIn lw_all ws := fun w hw => lw_self w (h w hw)
/-- what a call of a method with handlers asks: vx_cwVW n hts (lw_VW ..), vx_cwSW n hts (lw_SW ..) -/
theorem lw_VW {own : String} {idx : Nat} {C : String} {y : MethodName} {b : ByteArray} {L : Nat} {r : Option FieldType} {hh : List (Nat × Nat × Nat × Nat)} (h1 : Cond.methodLink own idx y ∈ lw_all) (h2 : Cond.instanceMethod y ∈ lw_all) (h3 : Cond.selects C y y ∈ lw_all) (h4 : Cond.initialized C ∈ lw_all) (h5 : Cond.codeWith y b L r hh ∈ lw_all) : GoodIn lw_all (wsV own idx C y (wsW_ y b L r hh)) := by
  refine lw_app ?_ (lw_methW h5)
  intro w hw
  simp only [List.mem_cons, List.not_mem_nil, or_false] at hw
  rcases hw with e | e | e | e
  · rw [e]; exact h1
  · rw [e]; exact h2
  · rw [e]; exact h3
  · rw [e]; exact h4
theorem lw_SW {own : String} {idx : Nat} {y : MethodName} {b : ByteArray} {L : Nat} {r : Option FieldType} {hh : List (Nat × Nat × Nat × Nat)} (h1 : Cond.methodLink own idx y ∈ lw_all) (h2 : Cond.static y ∈ lw_all) (h3 : Cond.initialized y.cls ∈ lw_all) (h4 : Cond.codeWith y b L r hh ∈ lw_all) : GoodIn lw_all (va_wsS own idx y (wsW_ y b L r hh)) := by
  refine lw_app ?_ (lw_methW h4)
  intro w hw
  simp only [List.mem_cons, List.not_mem_nil, or_false] at hw
  rcases hw with e | e | e
  · rw [e]; exact h1
  · rw [e]; exact h2
  · rw [e]; exact h3
/-- a word by its place in its run of the tables -/
theorem lw_at {r : List Cond} (hr : ∀ w ∈ r, w ∈ lw_tbl) {w : Cond} (i : Nat) (h : r[i]? = some w) : w ∈ lw_tbl := hr w (List.mem_of_getElem? h)
theorem lw_g {w : Cond} (h : w ∈ lw_tbl) (g : goodWord w = true) : w ∈ lw_all := List.mem_filter.mpr ⟨h, g⟩
theorem lw_ms : ∀ w ∈ k2_sels lw_privs, w ∈ lw_tbl := fun w h => show w ∈ k2_sels lw_privs ++ tables_1 from List.mem_append_left _ h
theorem lw_m1 : ∀ w ∈ tables_1_1, w ∈ lw_tbl := fun w h => show w ∈ k2_sels lw_privs ++ tables_1 from List.mem_append_right (k2_sels lw_privs) (show w ∈ tables_1 from List.mem_append_left _ h)
theorem lw_m2 : ∀ w ∈ tables_1_2, w ∈ lw_tbl := fun w h => show w ∈ k2_sels lw_privs ++ tables_1 from List.mem_append_right (k2_sels lw_privs) (show w ∈ tables_1 from List.mem_append_right _ (List.mem_append_left _ h))
theorem lw_m3 : ∀ w ∈ tables_1_3, w ∈ lw_tbl := fun w h => show w ∈ k2_sels lw_privs ++ tables_1 from List.mem_append_right (k2_sels lw_privs) (show w ∈ tables_1 from List.mem_append_right _ (List.mem_append_right _ (List.mem_append_left _ h)))
theorem lw_m4 : ∀ w ∈ tables_1_4, w ∈ lw_tbl := fun w h => show w ∈ k2_sels lw_privs ++ tables_1 from List.mem_append_right (k2_sels lw_privs) (show w ∈ tables_1 from List.mem_append_right _ (List.mem_append_right _ (List.mem_append_right _ (List.mem_append_left _ h))))
theorem lw_m5 : ∀ w ∈ tables_1_5, w ∈ lw_tbl := fun w h => show w ∈ k2_sels lw_privs ++ tables_1 from List.mem_append_right (k2_sels lw_privs) (show w ∈ tables_1 from List.mem_append_right _ (List.mem_append_right _ (List.mem_append_right _ (List.mem_append_right _ (List.mem_append_left _ h)))))
theorem lw_m6 : ∀ w ∈ tables_1_6, w ∈ lw_tbl := fun w h => show w ∈ k2_sels lw_privs ++ tables_1 from List.mem_append_right (k2_sels lw_privs) (show w ∈ tables_1 from List.mem_append_right _ (List.mem_append_right _ (List.mem_append_right _ (List.mem_append_right _ (List.mem_append_right _ (List.mem_append_left _ h))))))
theorem lw_m7 : ∀ w ∈ tables_1_7, w ∈ lw_tbl := fun w h => show w ∈ k2_sels lw_privs ++ tables_1 from List.mem_append_right (k2_sels lw_privs) (show w ∈ tables_1 from List.mem_append_right _ (List.mem_append_right _ (List.mem_append_right _ (List.mem_append_right _ (List.mem_append_right _ (List.mem_append_right _ h))))))
theorem qs0 : (Cond.selects "WellOfTheSilent" ⟨"WellOfTheSilent", "act", "(IIII)I"⟩ ⟨"WellOfTheSilent", "act", "(IIII)I"⟩) ∈ lw_all := lw_g (lw_at lw_ms 0 rfl) rfl
theorem qs1 : (Cond.selects "WellOfTheSilent" ⟨"WellOfTheSilent", "ofHill", "(IIII)I"⟩ ⟨"WellOfTheSilent", "ofHill", "(IIII)I"⟩) ∈ lw_all := lw_g (lw_at lw_ms 1 rfl) rfl
theorem qs2 : (Cond.selects "WellOfTheSilent" ⟨"WellOfTheSilent", "letterIt", "(I)I"⟩ ⟨"WellOfTheSilent", "letterIt", "(I)I"⟩) ∈ lw_all := lw_g (lw_at lw_ms 2 rfl) rfl
theorem qs3 : (Cond.selects "java/lang/Throwable" ⟨"java/lang/Throwable", "fillInStackTrace", "(I)Ljava/lang/Throwable;"⟩ ⟨"java/lang/Throwable", "fillInStackTrace", "(I)Ljava/lang/Throwable;"⟩) ∈ lw_all := lw_g (lw_at lw_ms 3 rfl) rfl
theorem qs4 : (Cond.selects "WellOfTheSilent" ⟨"WellOfTheSilent", "readHill", "()I"⟩ ⟨"WellOfTheSilent", "readHill", "()I"⟩) ∈ lw_all := lw_g (lw_at lw_ms 4 rfl) rfl
theorem qs5 : (Cond.selects "WellOfTheSilent$Reader" ⟨"WellOfTheSilent$Reader", "here", "()I"⟩ ⟨"WellOfTheSilent$Reader", "here", "()I"⟩) ∈ lw_all := lw_g (lw_at lw_ms 5 rfl) rfl
theorem qs6 : (Cond.selects "WellOfTheSilent$Reader" ⟨"WellOfTheSilent$Reader", "mustStand", "(Z)V"⟩ ⟨"WellOfTheSilent$Reader", "mustStand", "(Z)V"⟩) ∈ lw_all := lw_g (lw_at lw_ms 6 rfl) rfl
theorem qs7 : (Cond.selects "WellOfTheSilent$Reader" ⟨"WellOfTheSilent$Reader", "personTold", "(I)LWellOfTheSilent$Told;"⟩ ⟨"WellOfTheSilent$Reader", "personTold", "(I)LWellOfTheSilent$Told;"⟩) ∈ lw_all := lw_g (lw_at lw_ms 7 rfl) rfl
theorem qs8 : (Cond.selects "WellOfTheSilent" ⟨"WellOfTheSilent", "kindOf", "(I)I"⟩ ⟨"WellOfTheSilent", "kindOf", "(I)I"⟩) ∈ lw_all := lw_g (lw_at lw_ms 8 rfl) rfl
theorem qs9 : (Cond.selects "WellOfTheSilent$Reader" ⟨"WellOfTheSilent$Reader", "digit", "()I"⟩ ⟨"WellOfTheSilent$Reader", "digit", "()I"⟩) ∈ lw_all := lw_g (lw_at lw_ms 9 rfl) rfl
theorem qs10 : (Cond.selects "WellOfTheSilent$Reader" ⟨"WellOfTheSilent$Reader", "told", "(II)LWellOfTheSilent$Told;"⟩ ⟨"WellOfTheSilent$Reader", "told", "(II)LWellOfTheSilent$Told;"⟩) ∈ lw_all := lw_g (lw_at lw_ms 10 rfl) rfl
theorem qs11 : (Cond.selects "WellOfTheSilent$Reader" ⟨"WellOfTheSilent$Reader", "pair", "()I"⟩ ⟨"WellOfTheSilent$Reader", "pair", "()I"⟩) ∈ lw_all := lw_g (lw_at lw_ms 11 rfl) rfl
theorem qs12 : (Cond.selects "WellOfTheSilent$Reader" ⟨"WellOfTheSilent$Reader", "take", "(I)V"⟩ ⟨"WellOfTheSilent$Reader", "take", "(I)V"⟩) ∈ lw_all := lw_g (lw_at lw_ms 12 rfl) rfl
theorem qs13 : (Cond.selects "WellOfTheSilent$Hill" ⟨"WellOfTheSilent$Hill", "draw", "(I)V"⟩ ⟨"WellOfTheSilent$Hill", "draw", "(I)V"⟩) ∈ lw_all := lw_g (lw_at lw_ms 13 rfl) rfl
theorem qs14 : (Cond.selects "WellOfTheSilent$Hill" ⟨"WellOfTheSilent$Hill", "give", "(II)V"⟩ ⟨"WellOfTheSilent$Hill", "give", "(II)V"⟩) ∈ lw_all := lw_g (lw_at lw_ms 14 rfl) rfl
theorem qs15 : (Cond.selects "WellOfTheSilent" ⟨"WellOfTheSilent", "personAsked", "(II)I"⟩ ⟨"WellOfTheSilent", "personAsked", "(II)I"⟩) ∈ lw_all := lw_g (lw_at lw_ms 15 rfl) rfl
theorem qs16 : (Cond.selects "WellOfTheSilent" ⟨"WellOfTheSilent", "mustBePerson", "(I)V"⟩ ⟨"WellOfTheSilent", "mustBePerson", "(I)V"⟩) ∈ lw_all := lw_g (lw_at lw_ms 16 rfl) rfl
theorem qs17 : (Cond.selects "WellOfTheSilent" ⟨"WellOfTheSilent", "speakIt", "(I)I"⟩ ⟨"WellOfTheSilent", "speakIt", "(I)I"⟩) ∈ lw_all := lw_g (lw_at lw_ms 17 rfl) rfl
theorem qs18 : (Cond.selects "WellOfTheSilent" ⟨"WellOfTheSilent", "befriendIt", "(II)I"⟩ ⟨"WellOfTheSilent", "befriendIt", "(II)I"⟩) ∈ lw_all := lw_g (lw_at lw_ms 18 rfl) rfl
theorem qs19 : (Cond.selects "WellOfTheSilent" ⟨"WellOfTheSilent", "becomes", "([IIII)I"⟩ ⟨"WellOfTheSilent", "becomes", "([IIII)I"⟩) ∈ lw_all := lw_g (lw_at lw_ms 19 rfl) rfl
theorem qs20 : (Cond.selects "WellOfTheSilent" ⟨"WellOfTheSilent", "waterIt", "(I)I"⟩ ⟨"WellOfTheSilent", "waterIt", "(I)I"⟩) ∈ lw_all := lw_g (lw_at lw_ms 20 rfl) rfl
theorem qs21 : (Cond.selects "WellOfTheSilent" ⟨"WellOfTheSilent", "flowIt", "(I)I"⟩ ⟨"WellOfTheSilent", "flowIt", "(I)I"⟩) ∈ lw_all := lw_g (lw_at lw_ms 21 rfl) rfl
theorem qs22 : (Cond.selects "WellOfTheSilent" ⟨"WellOfTheSilent", "turnIt", "(III)I"⟩ ⟨"WellOfTheSilent", "turnIt", "(III)I"⟩) ∈ lw_all := lw_g (lw_at lw_ms 22 rfl) rfl
theorem qs23 : (Cond.selects "WellOfTheSilent" ⟨"WellOfTheSilent", "hoursIt", "(I)I"⟩ ⟨"WellOfTheSilent", "hoursIt", "(I)I"⟩) ∈ lw_all := lw_g (lw_at lw_ms 23 rfl) rfl
theorem qs24 : (Cond.selects "WellOfTheSilent" ⟨"WellOfTheSilent", "ofHours", "(III)I"⟩ ⟨"WellOfTheSilent", "ofHours", "(III)I"⟩) ∈ lw_all := lw_g (lw_at lw_ms 24 rfl) rfl
theorem qs25 : (Cond.selects "WellOfTheSilent" ⟨"WellOfTheSilent", "hasAhead", "(II)I"⟩ ⟨"WellOfTheSilent", "hasAhead", "(II)I"⟩) ∈ lw_all := lw_g (lw_at lw_ms 25 rfl) rfl
theorem qs26 : (Cond.selects "WellOfTheSilent" ⟨"WellOfTheSilent", "ahead", "(I)LWellOfTheSilent$Hill;"⟩ ⟨"WellOfTheSilent", "ahead", "(I)LWellOfTheSilent$Hill;"⟩) ∈ lw_all := lw_g (lw_at lw_ms 26 rfl) rfl
theorem qs27 : (Cond.selects "WellOfTheSilent" ⟨"WellOfTheSilent", "openMind", "()LWellOfTheSilent$Hill;"⟩ ⟨"WellOfTheSilent", "openMind", "()LWellOfTheSilent$Hill;"⟩) ∈ lw_all := lw_g (lw_at lw_ms 27 rfl) rfl
theorem qs28 : (Cond.selects "WellOfTheSilent" ⟨"WellOfTheSilent", "thenTold", "(II)I"⟩ ⟨"WellOfTheSilent", "thenTold", "(II)I"⟩) ∈ lw_all := lw_g (lw_at lw_ms 28 rfl) rfl
theorem qs29 : (Cond.selects "WellOfTheSilent" ⟨"WellOfTheSilent", "dryTold", "(I)I"⟩ ⟨"WellOfTheSilent", "dryTold", "(I)I"⟩) ∈ lw_all := lw_g (lw_at lw_ms 29 rfl) rfl
theorem qs30 : (Cond.selects "WellOfTheSilent" ⟨"WellOfTheSilent", "dryIn", "(I)I"⟩ ⟨"WellOfTheSilent", "dryIn", "(I)I"⟩) ∈ lw_all := lw_g (lw_at lw_ms 30 rfl) rfl
theorem qs31 : (Cond.selects "WellOfTheSilent" ⟨"WellOfTheSilent", "emptyIn", "()I"⟩ ⟨"WellOfTheSilent", "emptyIn", "()I"⟩) ∈ lw_all := lw_g (lw_at lw_ms 31 rfl) rfl
theorem qs32 : (Cond.selects "WellOfTheSilent" ⟨"WellOfTheSilent", "leastFlow", "(I)I"⟩ ⟨"WellOfTheSilent", "leastFlow", "(I)I"⟩) ∈ lw_all := lw_g (lw_at lw_ms 32 rfl) rfl
theorem qs33 : (Cond.selects "WellOfTheSilent" ⟨"WellOfTheSilent", "canTold", "(II)I"⟩ ⟨"WellOfTheSilent", "canTold", "(II)I"⟩) ∈ lw_all := lw_g (lw_at lw_ms 33 rfl) rfl
theorem qs34 : (Cond.selects "WellOfTheSilent" ⟨"WellOfTheSilent", "leastCan", "(II)I"⟩ ⟨"WellOfTheSilent", "leastCan", "(II)I"⟩) ∈ lw_all := lw_g (lw_at lw_ms 34 rfl) rfl
theorem qs35 : (Cond.selects "WellOfTheSilent" ⟨"WellOfTheSilent", "friendTold", "(II)I"⟩ ⟨"WellOfTheSilent", "friendTold", "(II)I"⟩) ∈ lw_all := lw_g (lw_at lw_ms 35 rfl) rfl
theorem qs36 : (Cond.selects "WellOfTheSilent" ⟨"WellOfTheSilent", "bestFriend", "(II)I"⟩ ⟨"WellOfTheSilent", "bestFriend", "(II)I"⟩) ∈ lw_all := lw_g (lw_at lw_ms 36 rfl) rfl
theorem qs37 : (Cond.selects "WellOfTheSilent" ⟨"WellOfTheSilent", "bestHushed", "(I)I"⟩ ⟨"WellOfTheSilent", "bestHushed", "(I)I"⟩) ∈ lw_all := lw_g (lw_at lw_ms 37 rfl) rfl
theorem qs38 : (Cond.selects "WellOfTheSilent" ⟨"WellOfTheSilent", "fewestTold", "(I)I"⟩ ⟨"WellOfTheSilent", "fewestTold", "(I)I"⟩) ∈ lw_all := lw_g (lw_at lw_ms 38 rfl) rfl
theorem qs39 : (Cond.selects "WellOfTheSilent" ⟨"WellOfTheSilent", "fewestHushed", "(I)I"⟩ ⟨"WellOfTheSilent", "fewestHushed", "(I)I"⟩) ∈ lw_all := lw_g (lw_at lw_ms 39 rfl) rfl
theorem qs40 : (Cond.selects "WellOfTheSilent" ⟨"WellOfTheSilent", "wordTold", "(I)I"⟩ ⟨"WellOfTheSilent", "wordTold", "(I)I"⟩) ∈ lw_all := lw_g (lw_at lw_ms 40 rfl) rfl
theorem qs41 : (Cond.selects "WellOfTheSilent" ⟨"WellOfTheSilent", "worstWord", "(I)I"⟩ ⟨"WellOfTheSilent", "worstWord", "(I)I"⟩) ∈ lw_all := lw_g (lw_at lw_ms 41 rfl) rfl
theorem qs42 : (Cond.selects "WellOfTheSilent" ⟨"WellOfTheSilent", "sendTold", "(II)I"⟩ ⟨"WellOfTheSilent", "sendTold", "(II)I"⟩) ∈ lw_all := lw_g (lw_at lw_ms 42 rfl) rfl
theorem qs43 : (Cond.selects "WellOfTheSilent" ⟨"WellOfTheSilent", "ofRest", "(IIII)I"⟩ ⟨"WellOfTheSilent", "ofRest", "(IIII)I"⟩) ∈ lw_all := lw_g (lw_at lw_ms 43 rfl) rfl
theorem qs44 : (Cond.selects "WellOfTheSilent" ⟨"WellOfTheSilent", "nextDrawing", "()I"⟩ ⟨"WellOfTheSilent", "nextDrawing", "()I"⟩) ∈ lw_all := lw_g (lw_at lw_ms 44 rfl) rfl
theorem qs45 : (Cond.selects "WellOfTheSilent" ⟨"WellOfTheSilent", "richestTold", "(I)I"⟩ ⟨"WellOfTheSilent", "richestTold", "(I)I"⟩) ∈ lw_all := lw_g (lw_at lw_ms 45 rfl) rfl
theorem qs46 : (Cond.selects "WellOfTheSilent" ⟨"WellOfTheSilent", "quietTold", "(I)I"⟩ ⟨"WellOfTheSilent", "quietTold", "(I)I"⟩) ∈ lw_all := lw_g (lw_at lw_ms 46 rfl) rfl
theorem qs47 : (Cond.selects "WellOfTheSilent" ⟨"WellOfTheSilent", "quietIn", "(I)I"⟩ ⟨"WellOfTheSilent", "quietIn", "(I)I"⟩) ∈ lw_all := lw_g (lw_at lw_ms 47 rfl) rfl
theorem qs48 : (Cond.selects "WellOfTheSilent" ⟨"WellOfTheSilent", "allDrink", "()I"⟩ ⟨"WellOfTheSilent", "allDrink", "()I"⟩) ∈ lw_all := lw_g (lw_at lw_ms 48 rfl) rfl
theorem qs49 : (Cond.selects "WellOfTheSilent" ⟨"WellOfTheSilent", "lastsTold", "(I)I"⟩ ⟨"WellOfTheSilent", "lastsTold", "(I)I"⟩) ∈ lw_all := lw_g (lw_at lw_ms 49 rfl) rfl
theorem qs50 : (Cond.selects "WellOfTheSilent" ⟨"WellOfTheSilent", "carriesTold", "(I)I"⟩ ⟨"WellOfTheSilent", "carriesTold", "(I)I"⟩) ∈ lw_all := lw_g (lw_at lw_ms 50 rfl) rfl
theorem qs51 : (Cond.selects "WellOfTheSilent" ⟨"WellOfTheSilent", "twoTold", "(III)I"⟩ ⟨"WellOfTheSilent", "twoTold", "(III)I"⟩) ∈ lw_all := lw_g (lw_at lw_ms 51 rfl) rfl
theorem qs52 : (Cond.selects "WellOfTheSilent" ⟨"WellOfTheSilent", "restingWords", "(III)I"⟩ ⟨"WellOfTheSilent", "restingWords", "(III)I"⟩) ∈ lw_all := lw_g (lw_at lw_ms 52 rfl) rfl
theorem qs53 : (Cond.selects "WellOfTheSilent" ⟨"WellOfTheSilent", "whatTold", "(II)I"⟩ ⟨"WellOfTheSilent", "whatTold", "(II)I"⟩) ∈ lw_all := lw_g (lw_at lw_ms 53 rfl) rfl
theorem qs54 : (Cond.selects "WellOfTheSilent" ⟨"WellOfTheSilent", "fitting", "(II)I"⟩ ⟨"WellOfTheSilent", "fitting", "(II)I"⟩) ∈ lw_all := lw_g (lw_at lw_ms 54 rfl) rfl
theorem qs55 : (Cond.selects "WellOfTheSilent" ⟨"WellOfTheSilent", "isRow", "(LWellOfTheSilent$Hill;I)Z"⟩ ⟨"WellOfTheSilent", "isRow", "(LWellOfTheSilent$Hill;I)Z"⟩) ∈ lw_all := lw_g (lw_at lw_ms 55 rfl) rfl
theorem qs56 : (Cond.selects "WellOfTheSilent" ⟨"WellOfTheSilent", "ofLast", "(IIII)I"⟩ ⟨"WellOfTheSilent", "ofLast", "(IIII)I"⟩) ∈ lw_all := lw_g (lw_at lw_ms 56 rfl) rfl
theorem qs57 : (Cond.selects "WellOfTheSilent" ⟨"WellOfTheSilent", "judgeRow", "()I"⟩ ⟨"WellOfTheSilent", "judgeRow", "()I"⟩) ∈ lw_all := lw_g (lw_at lw_ms 57 rfl) rfl
theorem qs58 : (Cond.selects "WellOfTheSilent" ⟨"WellOfTheSilent", "lotsTold", "(III)I"⟩ ⟨"WellOfTheSilent", "lotsTold", "(III)I"⟩) ∈ lw_all := lw_g (lw_at lw_ms 58 rfl) rfl
theorem qs59 : (Cond.selects "WellOfTheSilent" ⟨"WellOfTheSilent", "byLots", "(III)I"⟩ ⟨"WellOfTheSilent", "byLots", "(III)I"⟩) ∈ lw_all := lw_g (lw_at lw_ms 59 rfl) rfl
theorem qs60 : (Cond.selects "WellOfTheSilent" ⟨"WellOfTheSilent", "refuse", "(I)I"⟩ ⟨"WellOfTheSilent", "refuse", "(I)I"⟩) ∈ lw_all := lw_g (lw_at lw_ms 60 rfl) rfl
theorem qs61 : (Cond.selects "WellOfTheSilent" ⟨"WellOfTheSilent", "sneezeTold", "(IIIII)J"⟩ ⟨"WellOfTheSilent", "sneezeTold", "(IIIII)J"⟩) ∈ lw_all := lw_g (lw_at lw_ms 61 rfl) rfl
theorem qs62 : (Cond.selects "WellOfTheSilent" ⟨"WellOfTheSilent", "sneezePart", "(IIIII)J"⟩ ⟨"WellOfTheSilent", "sneezePart", "(IIIII)J"⟩) ∈ lw_all := lw_g (lw_at lw_ms 62 rfl) rfl
theorem qs63 : (Cond.selects "WellOfTheSilent" ⟨"WellOfTheSilent", "far", "(LWellOfTheSilent$Refusal;)J"⟩ ⟨"WellOfTheSilent", "far", "(LWellOfTheSilent$Refusal;)J"⟩) ∈ lw_all := lw_g (lw_at lw_ms 63 rfl) rfl
theorem qs64 : (Cond.selects "WellOfTheSilent" ⟨"WellOfTheSilent", "meanTold", "(I)J"⟩ ⟨"WellOfTheSilent", "meanTold", "(I)J"⟩) ∈ lw_all := lw_g (lw_at lw_ms 64 rfl) rfl
theorem qs65 : (Cond.selects "WellOfTheSilentModel" ⟨"WellOfTheSilentModel", "no", "(I)I"⟩ ⟨"WellOfTheSilentModel", "no", "(I)I"⟩) ∈ lw_all := lw_g (lw_at lw_ms 65 rfl) rfl
theorem qs66 : (Cond.selects "WellOfTheSilentModel" ⟨"WellOfTheSilentModel", "readsStatement", "()Z"⟩ ⟨"WellOfTheSilentModel", "readsStatement", "()Z"⟩) ∈ lw_all := lw_g (lw_at lw_ms 66 rfl) rfl
theorem qs67 : (Cond.selects "WellOfTheSilentModel" ⟨"WellOfTheSilentModel", "here", "()I"⟩ ⟨"WellOfTheSilentModel", "here", "()I"⟩) ∈ lw_all := lw_g (lw_at lw_ms 67 rfl) rfl
theorem qs68 : (Cond.selects "WellOfTheSilentModel" ⟨"WellOfTheSilentModel", "readsKind", "()Z"⟩ ⟨"WellOfTheSilentModel", "readsKind", "()Z"⟩) ∈ lw_all := lw_g (lw_at lw_ms 68 rfl) rfl
theorem qs69 : (Cond.selects "WellOfTheSilentModel" ⟨"WellOfTheSilentModel", "readsNumber", "(II)Z"⟩ ⟨"WellOfTheSilentModel", "readsNumber", "(II)Z"⟩) ∈ lw_all := lw_g (lw_at lw_ms 69 rfl) rfl
theorem qs70 : (Cond.selects "WellOfTheSilentModel" ⟨"WellOfTheSilentModel", "isDone", "(I)Z"⟩ ⟨"WellOfTheSilentModel", "isDone", "(I)Z"⟩) ∈ lw_all := lw_g (lw_at lw_ms 70 rfl) rfl
theorem qs71 : (Cond.selects "WellOfTheSilentModel" ⟨"WellOfTheSilentModel", "addsPerson", "()Z"⟩ ⟨"WellOfTheSilentModel", "addsPerson", "()Z"⟩) ∈ lw_all := lw_g (lw_at lw_ms 71 rfl) rfl
theorem qs72 : (Cond.selects "WellOfTheSilentModel" ⟨"WellOfTheSilentModel", "isPerson", "(I)Z"⟩ ⟨"WellOfTheSilentModel", "isPerson", "(I)Z"⟩) ∈ lw_all := lw_g (lw_at lw_ms 72 rfl) rfl
theorem qs73 : (Cond.selects "WellOfTheSilentModel" ⟨"WellOfTheSilentModel", "sets", "(II)I"⟩ ⟨"WellOfTheSilentModel", "sets", "(II)I"⟩) ∈ lw_all := lw_g (lw_at lw_ms 73 rfl) rfl
theorem qs74 : (Cond.selects "WellOfTheSilentModel" ⟨"WellOfTheSilentModel", "setsOf", "(IIII)I"⟩ ⟨"WellOfTheSilentModel", "setsOf", "(IIII)I"⟩) ∈ lw_all := lw_g (lw_at lw_ms 74 rfl) rfl
theorem qs75 : (Cond.selects "WellOfTheSilentModel" ⟨"WellOfTheSilentModel", "setsIn", "(III)I"⟩ ⟨"WellOfTheSilentModel", "setsIn", "(III)I"⟩) ∈ lw_all := lw_g (lw_at lw_ms 75 rfl) rfl
theorem qs76 : (Cond.selects "WellOfTheSilentModel" ⟨"WellOfTheSilentModel", "takes", "(I)V"⟩ ⟨"WellOfTheSilentModel", "takes", "(I)V"⟩) ∈ lw_all := lw_g (lw_at lw_ms 76 rfl) rfl
theorem qs77 : (Cond.selects "WellOfTheSilentModel" ⟨"WellOfTheSilentModel", "firstDry", "()I"⟩ ⟨"WellOfTheSilentModel", "firstDry", "()I"⟩) ∈ lw_all := lw_g (lw_at lw_ms 77 rfl) rfl
theorem qs78 : (Cond.selects "WellOfTheSilentModel" ⟨"WellOfTheSilentModel", "whenNothing", "(I)I"⟩ ⟨"WellOfTheSilentModel", "whenNothing", "(I)I"⟩) ∈ lw_all := lw_g (lw_at lw_ms 78 rfl) rfl
theorem qs79 : (Cond.selects "WellOfTheSilentModel" ⟨"WellOfTheSilentModel", "isNoneDry", "(II)Z"⟩ ⟨"WellOfTheSilentModel", "isNoneDry", "(II)Z"⟩) ∈ lw_all := lw_g (lw_at lw_ms 79 rfl) rfl
theorem qs80 : (Cond.selects "WellOfTheSilentModel" ⟨"WellOfTheSilentModel", "extreme", "(IZ)I"⟩ ⟨"WellOfTheSilentModel", "extreme", "(IZ)I"⟩) ∈ lw_all := lw_g (lw_at lw_ms 80 rfl) rfl
theorem qs81 : (Cond.selects "WellOfTheSilentModel" ⟨"WellOfTheSilentModel", "hasBy", "(IIIIII)I"⟩ ⟨"WellOfTheSilentModel", "hasBy", "(IIIIII)I"⟩) ∈ lw_all := lw_g (lw_at lw_ms 81 rfl) rfl
theorem qs82 : (Cond.selects "WellOfTheSilentModel" ⟨"WellOfTheSilentModel", "noWide", "(I)J"⟩ ⟨"WellOfTheSilentModel", "noWide", "(I)J"⟩) ∈ lw_all := lw_g (lw_at lw_ms 82 rfl) rfl
theorem qs83 : (Cond.selects "WellOfTheSilentModel" ⟨"WellOfTheSilentModel", "drawn", "(I)I"⟩ ⟨"WellOfTheSilentModel", "drawn", "(I)I"⟩) ∈ lw_all := lw_g (lw_at lw_ms 83 rfl) rfl
-- ===== end of PART A; then your names; then what follows =====
