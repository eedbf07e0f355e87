-- ===== PART A: goes FIRST, ahead of the names: the tables' words, and 'selects' of the private methods out of them =====
/-- a private method of a class that the tables say can be made, by its rows of tables_1 -/
def lw_okq (q : MethodName × Nat) : Prop := (q.1.cls ≠ "java/lang/invoke/MethodHandle" ∧ q.1.cls ≠ "java/lang/invoke/VarHandle") ∧ Cond.instantiable q.1.cls q.2 ∈ tables_1 ∧ Cond.privateMethod q.1 ∈ tables_1 ∧ Cond.instanceMethod q.1 ∈ tables_1
set_option maxRecDepth 100000
theorem lw_t1 {w : Cond} (h : w ∈ tables_1_1) : w ∈ tables_1 := List.mem_append_left _ h
theorem lw_t2 {w : Cond} (h : w ∈ tables_1_2) : w ∈ tables_1 := List.mem_append_right _ (List.mem_append_left _ h)
theorem lw_t3 {w : Cond} (h : w ∈ tables_1_3) : w ∈ tables_1 := List.mem_append_right _ (List.mem_append_right _ (List.mem_append_left _ h))
theorem lw_t4 {w : Cond} (h : w ∈ tables_1_4) : w ∈ tables_1 := List.mem_append_right _ (List.mem_append_right _ (List.mem_append_right _ (List.mem_append_left _ h)))
theorem lw_t5 {w : Cond} (h : w ∈ tables_1_5) : w ∈ tables_1 := List.mem_append_right _ (List.mem_append_right _ (List.mem_append_right _ (List.mem_append_right _ (List.mem_append_left _ h))))
theorem lw_t6 {w : Cond} (h : w ∈ tables_1_6) : w ∈ tables_1 := List.mem_append_right _ (List.mem_append_right _ (List.mem_append_right _ (List.mem_append_right _ (List.mem_append_right _ (List.mem_append_left _ h)))))
theorem lw_t7 {w : Cond} (h : w ∈ tables_1_7) : w ∈ tables_1 := List.mem_append_right _ (List.mem_append_right _ (List.mem_append_right _ (List.mem_append_right _ (List.mem_append_right _ (List.mem_append_right _ (List.mem_append_left _ h))))))
theorem lw_t8 {w : Cond} (h : w ∈ tables_1_8) : w ∈ tables_1 := List.mem_append_right _ (List.mem_append_right _ (List.mem_append_right _ (List.mem_append_right _ (List.mem_append_right _ (List.mem_append_right _ (List.mem_append_right _ (List.mem_append_left _ h)))))))
theorem lw_t9 {w : Cond} (h : w ∈ tables_1_9) : w ∈ tables_1 := List.mem_append_right _ (List.mem_append_right _ (List.mem_append_right _ (List.mem_append_right _ (List.mem_append_right _ (List.mem_append_right _ (List.mem_append_right _ (List.mem_append_right _ (List.mem_append_left _ h))))))))
theorem lw_t10 {w : Cond} (h : w ∈ tables_1_10) : w ∈ tables_1 := List.mem_append_right _ (List.mem_append_right _ (List.mem_append_right _ (List.mem_append_right _ (List.mem_append_right _ (List.mem_append_right _ (List.mem_append_right _ (List.mem_append_right _ (List.mem_append_right _ (List.mem_append_left _ h)))))))))
theorem lw_t11 {w : Cond} (h : w ∈ tables_1_11) : w ∈ tables_1 := List.mem_append_right _ (List.mem_append_right _ (List.mem_append_right _ (List.mem_append_right _ (List.mem_append_right _ (List.mem_append_right _ (List.mem_append_right _ (List.mem_append_right _ (List.mem_append_right _ (List.mem_append_right _ h)))))))))
theorem lw_p0 : lw_okq (⟨"java/lang/Throwable", "fillInStackTrace", "(I)Ljava/lang/Throwable;"⟩, 6) := ⟨⟨by decide +kernel, by decide +kernel⟩, lw_t1 (List.mem_of_getElem? (i := 82) rfl), lw_t1 (List.mem_of_getElem? (i := 80) rfl), lw_t1 (List.mem_of_getElem? (i := 81) rfl)⟩
theorem lw_p1 : lw_okq (⟨"ThirtyThreeBelow", "add", "(LThirtyThreeBelow$Body;)I"⟩, 59) := ⟨⟨by decide +kernel, by decide +kernel⟩, lw_t1 (List.mem_of_getElem? (i := 32) rfl), lw_t2 (List.mem_of_getElem? (i := 184) rfl), lw_t2 (List.mem_of_getElem? (i := 185) rfl)⟩
theorem lw_p2 : lw_okq (⟨"ThirtyThreeBelow", "isBody", "(I)Z"⟩, 59) := ⟨⟨by decide +kernel, by decide +kernel⟩, lw_t1 (List.mem_of_getElem? (i := 32) rfl), lw_t3 (List.mem_of_getElem? (i := 161) rfl), lw_t3 (List.mem_of_getElem? (i := 162) rfl)⟩
theorem lw_p3 : lw_okq (⟨"ThirtyThreeBelow", "holeOf", "(I)LThirtyThreeBelow$Hole;"⟩, 59) := ⟨⟨by decide +kernel, by decide +kernel⟩, lw_t1 (List.mem_of_getElem? (i := 32) rfl), lw_t3 (List.mem_of_getElem? (i := 192) rfl), lw_t3 (List.mem_of_getElem? (i := 193) rfl)⟩
theorem lw_p4 : lw_okq (⟨"ThirtyThreeBelow", "manOf", "(I)LThirtyThreeBelow$Man;"⟩, 59) := ⟨⟨by decide +kernel, by decide +kernel⟩, lw_t1 (List.mem_of_getElem? (i := 32) rfl), lw_t3 (List.mem_of_getElem? (i := 210) rfl), lw_t3 (List.mem_of_getElem? (i := 211) rfl)⟩
theorem lw_p5 : lw_okq (⟨"ThirtyThreeBelow", "real", "(Ljava/lang/Object;J)D"⟩, 59) := ⟨⟨by decide +kernel, by decide +kernel⟩, lw_t1 (List.mem_of_getElem? (i := 32) rfl), lw_t4 (List.mem_of_getElem? (i := 19) rfl), lw_t4 (List.mem_of_getElem? (i := 20) rfl)⟩
theorem lw_p6 : lw_okq (⟨"ThirtyThreeBelow", "isMap", "(I)Z"⟩, 59) := ⟨⟨by decide +kernel, by decide +kernel⟩, lw_t1 (List.mem_of_getElem? (i := 32) rfl), lw_t4 (List.mem_of_getElem? (i := 78) rfl), lw_t4 (List.mem_of_getElem? (i := 79) rfl)⟩
theorem lw_p7 : lw_okq (⟨"ThirtyThreeBelow", "isOld", "(III)Z"⟩, 59) := ⟨⟨by decide +kernel, by decide +kernel⟩, lw_t1 (List.mem_of_getElem? (i := 32) rfl), lw_t4 (List.mem_of_getElem? (i := 82) rfl), lw_t4 (List.mem_of_getElem? (i := 83) rfl)⟩
theorem lw_p8 : lw_okq (⟨"ThirtyThreeBelow", "isLike", "(IIII)Z"⟩, 59) := ⟨⟨by decide +kernel, by decide +kernel⟩, lw_t1 (List.mem_of_getElem? (i := 32) rfl), lw_t4 (List.mem_of_getElem? (i := 93) rfl), lw_t4 (List.mem_of_getElem? (i := 94) rfl)⟩
theorem lw_p9 : lw_okq (⟨"ThirtyThreeBelow", "isOfShelter", "(III)Z"⟩, 59) := ⟨⟨by decide +kernel, by decide +kernel⟩, lw_t1 (List.mem_of_getElem? (i := 32) rfl), lw_t4 (List.mem_of_getElem? (i := 97) rfl), lw_t4 (List.mem_of_getElem? (i := 98) rfl)⟩
theorem lw_p10 : lw_okq (⟨"ThirtyThreeBelow$Reader", "line", "(LThirtyThreeBelow$Text;)V"⟩, 4) := ⟨⟨by decide +kernel, by decide +kernel⟩, lw_t1 (List.mem_of_getElem? (i := 112) rfl), lw_t4 (List.mem_of_getElem? (i := 122) rfl), lw_t4 (List.mem_of_getElem? (i := 123) rfl)⟩
theorem lw_p11 : lw_okq (⟨"ThirtyThreeBelow$Reader", "any", "()LThirtyThreeBelow$Term;"⟩, 4) := ⟨⟨by decide +kernel, by decide +kernel⟩, lw_t1 (List.mem_of_getElem? (i := 112) rfl), lw_t4 (List.mem_of_getElem? (i := 126) rfl), lw_t4 (List.mem_of_getElem? (i := 127) rfl)⟩
theorem lw_p12 : lw_okq (⟨"ThirtyThreeBelow$Reader", "all", "()LThirtyThreeBelow$Term;"⟩, 4) := ⟨⟨by decide +kernel, by decide +kernel⟩, lw_t1 (List.mem_of_getElem? (i := 112) rfl), lw_t4 (List.mem_of_getElem? (i := 130) rfl), lw_t4 (List.mem_of_getElem? (i := 131) rfl)⟩
theorem lw_p13 : lw_okq (⟨"ThirtyThreeBelow$Reader", "compared", "()LThirtyThreeBelow$Term;"⟩, 4) := ⟨⟨by decide +kernel, by decide +kernel⟩, lw_t1 (List.mem_of_getElem? (i := 112) rfl), lw_t4 (List.mem_of_getElem? (i := 134) rfl), lw_t4 (List.mem_of_getElem? (i := 135) rfl)⟩
theorem lw_p14 : lw_okq (⟨"ThirtyThreeBelow$Reader", "sum", "()LThirtyThreeBelow$Term;"⟩, 4) := ⟨⟨by decide +kernel, by decide +kernel⟩, lw_t1 (List.mem_of_getElem? (i := 112) rfl), lw_t4 (List.mem_of_getElem? (i := 138) rfl), lw_t4 (List.mem_of_getElem? (i := 139) rfl)⟩
theorem lw_p15 : lw_okq (⟨"ThirtyThreeBelow$Reader", "product", "()LThirtyThreeBelow$Term;"⟩, 4) := ⟨⟨by decide +kernel, by decide +kernel⟩, lw_t1 (List.mem_of_getElem? (i := 112) rfl), lw_t4 (List.mem_of_getElem? (i := 142) rfl), lw_t4 (List.mem_of_getElem? (i := 143) rfl)⟩
def lw_privs_1 : List (MethodName × Nat) := [(⟨"java/lang/Throwable", "fillInStackTrace", "(I)Ljava/lang/Throwable;"⟩, 6), (⟨"ThirtyThreeBelow", "add", "(LThirtyThreeBelow$Body;)I"⟩, 59), (⟨"ThirtyThreeBelow", "isBody", "(I)Z"⟩, 59), (⟨"ThirtyThreeBelow", "holeOf", "(I)LThirtyThreeBelow$Hole;"⟩, 59), (⟨"ThirtyThreeBelow", "manOf", "(I)LThirtyThreeBelow$Man;"⟩, 59), (⟨"ThirtyThreeBelow", "real", "(Ljava/lang/Object;J)D"⟩, 59), (⟨"ThirtyThreeBelow", "isMap", "(I)Z"⟩, 59), (⟨"ThirtyThreeBelow", "isOld", "(III)Z"⟩, 59), (⟨"ThirtyThreeBelow", "isLike", "(IIII)Z"⟩, 59), (⟨"ThirtyThreeBelow", "isOfShelter", "(III)Z"⟩, 59), (⟨"ThirtyThreeBelow$Reader", "line", "(LThirtyThreeBelow$Text;)V"⟩, 4), (⟨"ThirtyThreeBelow$Reader", "any", "()LThirtyThreeBelow$Term;"⟩, 4), (⟨"ThirtyThreeBelow$Reader", "all", "()LThirtyThreeBelow$Term;"⟩, 4), (⟨"ThirtyThreeBelow$Reader", "compared", "()LThirtyThreeBelow$Term;"⟩, 4), (⟨"ThirtyThreeBelow$Reader", "sum", "()LThirtyThreeBelow$Term;"⟩, 4), (⟨"ThirtyThreeBelow$Reader", "product", "()LThirtyThreeBelow$Term;"⟩, 4)]
theorem lw_r1 : ∀ q ∈ lw_privs_1, lw_okq q := List.forall_mem_cons.mpr ⟨lw_p0, List.forall_mem_cons.mpr ⟨lw_p1, List.forall_mem_cons.mpr ⟨lw_p2, List.forall_mem_cons.mpr ⟨lw_p3, List.forall_mem_cons.mpr ⟨lw_p4, List.forall_mem_cons.mpr ⟨lw_p5, List.forall_mem_cons.mpr ⟨lw_p6, List.forall_mem_cons.mpr ⟨lw_p7, List.forall_mem_cons.mpr ⟨lw_p8, List.forall_mem_cons.mpr ⟨lw_p9, List.forall_mem_cons.mpr ⟨lw_p10, List.forall_mem_cons.mpr ⟨lw_p11, List.forall_mem_cons.mpr ⟨lw_p12, List.forall_mem_cons.mpr ⟨lw_p13, List.forall_mem_cons.mpr ⟨lw_p14, List.forall_mem_cons.mpr ⟨lw_p15, fun _ h => absurd h List.not_mem_nil⟩⟩⟩⟩⟩⟩⟩⟩⟩⟩⟩⟩⟩⟩⟩⟩
theorem lw_p16 : lw_okq (⟨"ThirtyThreeBelow$Reader", "one", "()LThirtyThreeBelow$Term;"⟩, 4) := ⟨⟨by decide +kernel, by decide +kernel⟩, lw_t1 (List.mem_of_getElem? (i := 112) rfl), lw_t4 (List.mem_of_getElem? (i := 146) rfl), lw_t4 (List.mem_of_getElem? (i := 147) rfl)⟩
theorem lw_p17 : lw_okq (⟨"ThirtyThreeBelow$Reader", "next", "()I"⟩, 4) := ⟨⟨by decide +kernel, by decide +kernel⟩, lw_t1 (List.mem_of_getElem? (i := 112) rfl), lw_t4 (List.mem_of_getElem? (i := 150) rfl), lw_t4 (List.mem_of_getElem? (i := 151) rfl)⟩
theorem lw_p18 : lw_okq (⟨"ThirtyThreeBelow$Reader", "deeper", "()V"⟩, 4) := ⟨⟨by decide +kernel, by decide +kernel⟩, lw_t1 (List.mem_of_getElem? (i := 112) rfl), lw_t4 (List.mem_of_getElem? (i := 154) rfl), lw_t4 (List.mem_of_getElem? (i := 155) rfl)⟩
theorem lw_p19 : lw_okq (⟨"ThirtyThreeBelow$Reader", "take", "(I)Z"⟩, 4) := ⟨⟨by decide +kernel, by decide +kernel⟩, lw_t1 (List.mem_of_getElem? (i := 112) rfl), lw_t4 (List.mem_of_getElem? (i := 180) rfl), lw_t4 (List.mem_of_getElem? (i := 181) rfl)⟩
theorem lw_p20 : lw_okq (⟨"ThirtyThreeBelow", "force", "(III)I"⟩, 59) := ⟨⟨by decide +kernel, by decide +kernel⟩, lw_t1 (List.mem_of_getElem? (i := 32) rfl), lw_t5 (List.mem_of_getElem? (i := 83) rfl), lw_t5 (List.mem_of_getElem? (i := 84) rfl)⟩
theorem lw_p21 : lw_okq (⟨"ThirtyThreeBelow", "wasThroughBy", "(I)Z"⟩, 59) := ⟨⟨by decide +kernel, by decide +kernel⟩, lw_t1 (List.mem_of_getElem? (i := 32) rfl), lw_t5 (List.mem_of_getElem? (i := 87) rfl), lw_t5 (List.mem_of_getElem? (i := 88) rfl)⟩
theorem lw_p22 : lw_okq (⟨"ThirtyThreeBelow", "gives", "(ILThirtyThreeBelow$Man;I)I"⟩, 59) := ⟨⟨by decide +kernel, by decide +kernel⟩, lw_t1 (List.mem_of_getElem? (i := 32) rfl), lw_t5 (List.mem_of_getElem? (i := 95) rfl), lw_t5 (List.mem_of_getElem? (i := 96) rfl)⟩
theorem lw_p23 : lw_okq (⟨"ThirtyThreeBelow", "belowMany", "()I"⟩, 59) := ⟨⟨by decide +kernel, by decide +kernel⟩, lw_t1 (List.mem_of_getElem? (i := 32) rfl), lw_t5 (List.mem_of_getElem? (i := 99) rfl), lw_t5 (List.mem_of_getElem? (i := 100) rfl)⟩
theorem lw_p24 : lw_okq (⟨"ThirtyThreeBelow", "belowOf", "(I)LThirtyThreeBelow$Man;"⟩, 59) := ⟨⟨by decide +kernel, by decide +kernel⟩, lw_t1 (List.mem_of_getElem? (i := 32) rfl), lw_t5 (List.mem_of_getElem? (i := 103) rfl), lw_t5 (List.mem_of_getElem? (i := 104) rfl)⟩
theorem lw_p25 : lw_okq (⟨"ThirtyThreeBelow", "throughMany", "()I"⟩, 59) := ⟨⟨by decide +kernel, by decide +kernel⟩, lw_t1 (List.mem_of_getElem? (i := 32) rfl), lw_t5 (List.mem_of_getElem? (i := 107) rfl), lw_t5 (List.mem_of_getElem? (i := 108) rfl)⟩
theorem lw_p26 : lw_okq (⟨"ThirtyThreeBelow", "drill", "()V"⟩, 59) := ⟨⟨by decide +kernel, by decide +kernel⟩, lw_t1 (List.mem_of_getElem? (i := 32) rfl), lw_t5 (List.mem_of_getElem? (i := 137) rfl), lw_t5 (List.mem_of_getElem? (i := 138) rfl)⟩
theorem lw_p27 : lw_okq (⟨"ThirtyThreeBelow", "isShelterAt", "(II)Z"⟩, 59) := ⟨⟨by decide +kernel, by decide +kernel⟩, lw_t1 (List.mem_of_getElem? (i := 32) rfl), lw_t5 (List.mem_of_getElem? (i := 152) rfl), lw_t5 (List.mem_of_getElem? (i := 153) rfl)⟩
theorem lw_p28 : lw_okq (⟨"ThirtyThreeBelow", "arrive", "()V"⟩, 59) := ⟨⟨by decide +kernel, by decide +kernel⟩, lw_t1 (List.mem_of_getElem? (i := 32) rfl), lw_t5 (List.mem_of_getElem? (i := 156) rfl), lw_t5 (List.mem_of_getElem? (i := 157) rfl)⟩
theorem lw_p29 : lw_okq (⟨"ThirtyThreeBelow", "feedAll", "()V"⟩, 59) := ⟨⟨by decide +kernel, by decide +kernel⟩, lw_t1 (List.mem_of_getElem? (i := 32) rfl), lw_t5 (List.mem_of_getElem? (i := 160) rfl), lw_t5 (List.mem_of_getElem? (i := 161) rfl)⟩
theorem lw_p30 : lw_okq (⟨"ThirtyThreeBelow", "moveRock", "(I)V"⟩, 59) := ⟨⟨by decide +kernel, by decide +kernel⟩, lw_t1 (List.mem_of_getElem? (i := 32) rfl), lw_t5 (List.mem_of_getElem? (i := 164) rfl), lw_t5 (List.mem_of_getElem? (i := 165) rfl)⟩
theorem lw_p31 : lw_okq (⟨"ThirtyThreeBelow", "lasts", "(II)I"⟩, 59) := ⟨⟨by decide +kernel, by decide +kernel⟩, lw_t1 (List.mem_of_getElem? (i := 32) rfl), lw_t5 (List.mem_of_getElem? (i := 182) rfl), lw_t5 (List.mem_of_getElem? (i := 183) rfl)⟩
def lw_privs_2 : List (MethodName × Nat) := [(⟨"ThirtyThreeBelow$Reader", "one", "()LThirtyThreeBelow$Term;"⟩, 4), (⟨"ThirtyThreeBelow$Reader", "next", "()I"⟩, 4), (⟨"ThirtyThreeBelow$Reader", "deeper", "()V"⟩, 4), (⟨"ThirtyThreeBelow$Reader", "take", "(I)Z"⟩, 4), (⟨"ThirtyThreeBelow", "force", "(III)I"⟩, 59), (⟨"ThirtyThreeBelow", "wasThroughBy", "(I)Z"⟩, 59), (⟨"ThirtyThreeBelow", "gives", "(ILThirtyThreeBelow$Man;I)I"⟩, 59), (⟨"ThirtyThreeBelow", "belowMany", "()I"⟩, 59), (⟨"ThirtyThreeBelow", "belowOf", "(I)LThirtyThreeBelow$Man;"⟩, 59), (⟨"ThirtyThreeBelow", "throughMany", "()I"⟩, 59), (⟨"ThirtyThreeBelow", "drill", "()V"⟩, 59), (⟨"ThirtyThreeBelow", "isShelterAt", "(II)Z"⟩, 59), (⟨"ThirtyThreeBelow", "arrive", "()V"⟩, 59), (⟨"ThirtyThreeBelow", "feedAll", "()V"⟩, 59), (⟨"ThirtyThreeBelow", "moveRock", "(I)V"⟩, 59), (⟨"ThirtyThreeBelow", "lasts", "(II)I"⟩, 59)]
theorem lw_r2 : ∀ q ∈ lw_privs_2, lw_okq q := List.forall_mem_cons.mpr ⟨lw_p16, List.forall_mem_cons.mpr ⟨lw_p17, List.forall_mem_cons.mpr ⟨lw_p18, List.forall_mem_cons.mpr ⟨lw_p19, List.forall_mem_cons.mpr ⟨lw_p20, List.forall_mem_cons.mpr ⟨lw_p21, List.forall_mem_cons.mpr ⟨lw_p22, List.forall_mem_cons.mpr ⟨lw_p23, List.forall_mem_cons.mpr ⟨lw_p24, List.forall_mem_cons.mpr ⟨lw_p25, List.forall_mem_cons.mpr ⟨lw_p26, List.forall_mem_cons.mpr ⟨lw_p27, List.forall_mem_cons.mpr ⟨lw_p28, List.forall_mem_cons.mpr ⟨lw_p29, List.forall_mem_cons.mpr ⟨lw_p30, List.forall_mem_cons.mpr ⟨lw_p31, fun _ h => absurd h List.not_mem_nil⟩⟩⟩⟩⟩⟩⟩⟩⟩⟩⟩⟩⟩⟩⟩⟩
theorem lw_p32 : lw_okq (⟨"ThirtyThreeBelow", "lateOf", "(II)I"⟩, 59) := ⟨⟨by decide +kernel, by decide +kernel⟩, lw_t1 (List.mem_of_getElem? (i := 32) rfl), lw_t5 (List.mem_of_getElem? (i := 209) rfl), lw_t5 (List.mem_of_getElem? (i := 210) rfl)⟩
theorem lw_p33 : lw_okq (⟨"ThirtyThreeBelow", "hoursOf", "(I)I"⟩, 59) := ⟨⟨by decide +kernel, by decide +kernel⟩, lw_t1 (List.mem_of_getElem? (i := 32) rfl), lw_t5 (List.mem_of_getElem? (i := 213) rfl), lw_t5 (List.mem_of_getElem? (i := 214) rfl)⟩
theorem lw_p34 : lw_okq (⟨"ThirtyThreeBelow", "takes", "(IIII)I"⟩, 59) := ⟨⟨by decide +kernel, by decide +kernel⟩, lw_t1 (List.mem_of_getElem? (i := 32) rfl), lw_t6 (List.mem_of_getElem? (i := 3) rfl), lw_t6 (List.mem_of_getElem? (i := 4) rfl)⟩
theorem lw_p35 : lw_okq (⟨"ThirtyThreeBelow", "isOfReals", "(I)Z"⟩, 59) := ⟨⟨by decide +kernel, by decide +kernel⟩, lw_t1 (List.mem_of_getElem? (i := 32) rfl), lw_t7 (List.mem_of_getElem? (i := 77) rfl), lw_t7 (List.mem_of_getElem? (i := 78) rfl)⟩
theorem lw_p36 : lw_okq (⟨"ThirtyThreeBelow", "refusal", "(II)I"⟩, 59) := ⟨⟨by decide +kernel, by decide +kernel⟩, lw_t1 (List.mem_of_getElem? (i := 32) rfl), lw_t7 (List.mem_of_getElem? (i := 88) rfl), lw_t7 (List.mem_of_getElem? (i := 89) rfl)⟩
theorem lw_p37 : lw_okq (⟨"ThirtyThreeBelowModel", "add", "(I)I"⟩, 95) := ⟨⟨by decide +kernel, by decide +kernel⟩, lw_t7 (List.mem_of_getElem? (i := 158) rfl), lw_t8 (List.mem_of_getElem? (i := 235) rfl), lw_t8 (List.mem_of_getElem? (i := 236) rfl)⟩
theorem lw_p38 : lw_okq (⟨"ThirtyThreeBelowModel", "isBody", "(I)Z"⟩, 95) := ⟨⟨by decide +kernel, by decide +kernel⟩, lw_t7 (List.mem_of_getElem? (i := 158) rfl), lw_t9 (List.mem_of_getElem? (i := 18) rfl), lw_t9 (List.mem_of_getElem? (i := 19) rfl)⟩
theorem lw_p39 : lw_okq (⟨"ThirtyThreeBelowModel", "isHole", "(I)Z"⟩, 95) := ⟨⟨by decide +kernel, by decide +kernel⟩, lw_t7 (List.mem_of_getElem? (i := 158) rfl), lw_t9 (List.mem_of_getElem? (i := 23) rfl), lw_t9 (List.mem_of_getElem? (i := 24) rfl)⟩
theorem lw_p40 : lw_okq (⟨"ThirtyThreeBelowModel", "isMan", "(I)Z"⟩, 95) := ⟨⟨by decide +kernel, by decide +kernel⟩, lw_t7 (List.mem_of_getElem? (i := 158) rfl), lw_t9 (List.mem_of_getElem? (i := 34) rfl), lw_t9 (List.mem_of_getElem? (i := 35) rfl)⟩
theorem lw_p41 : lw_okq (⟨"ThirtyThreeBelowModel", "isReals", "(I)Z"⟩, 95) := ⟨⟨by decide +kernel, by decide +kernel⟩, lw_t7 (List.mem_of_getElem? (i := 158) rfl), lw_t9 (List.mem_of_getElem? (i := 72) rfl), lw_t9 (List.mem_of_getElem? (i := 73) rfl)⟩
theorem lw_p42 : lw_okq (⟨"ThirtyThreeBelowModel", "canBeAt", "(IIZ)I"⟩, 95) := ⟨⟨by decide +kernel, by decide +kernel⟩, lw_t7 (List.mem_of_getElem? (i := 158) rfl), lw_t9 (List.mem_of_getElem? (i := 80) rfl), lw_t9 (List.mem_of_getElem? (i := 81) rfl)⟩
theorem lw_p43 : lw_okq (⟨"ThirtyThreeBelowModel", "isOldBy", "(II)Z"⟩, 95) := ⟨⟨by decide +kernel, by decide +kernel⟩, lw_t7 (List.mem_of_getElem? (i := 158) rfl), lw_t9 (List.mem_of_getElem? (i := 98) rfl), lw_t9 (List.mem_of_getElem? (i := 99) rfl)⟩
theorem lw_p44 : lw_okq (⟨"ThirtyThreeBelowModel", "wrongBy", "(I)I"⟩, 95) := ⟨⟨by decide +kernel, by decide +kernel⟩, lw_t7 (List.mem_of_getElem? (i := 158) rfl), lw_t9 (List.mem_of_getElem? (i := 106) rfl), lw_t9 (List.mem_of_getElem? (i := 107) rfl)⟩
theorem lw_p45 : lw_okq (⟨"ThirtyThreeBelowModel", "isUnlike", "(III)Z"⟩, 95) := ⟨⟨by decide +kernel, by decide +kernel⟩, lw_t7 (List.mem_of_getElem? (i := 158) rfl), lw_t9 (List.mem_of_getElem? (i := 110) rfl), lw_t9 (List.mem_of_getElem? (i := 111) rfl)⟩
theorem lw_p46 : lw_okq (⟨"ThirtyThreeBelowModel", "isShelterBy", "(III)Z"⟩, 95) := ⟨⟨by decide +kernel, by decide +kernel⟩, lw_t7 (List.mem_of_getElem? (i := 158) rfl), lw_t9 (List.mem_of_getElem? (i := 114) rfl), lw_t9 (List.mem_of_getElem? (i := 115) rfl)⟩
theorem lw_p47 : lw_okq (⟨"ThirtyThreeBelowModel", "readLine", "()V"⟩, 95) := ⟨⟨by decide +kernel, by decide +kernel⟩, lw_t7 (List.mem_of_getElem? (i := 158) rfl), lw_t9 (List.mem_of_getElem? (i := 133) rfl), lw_t9 (List.mem_of_getElem? (i := 134) rfl)⟩
def lw_privs_3 : List (MethodName × Nat) := [(⟨"ThirtyThreeBelow", "lateOf", "(II)I"⟩, 59), (⟨"ThirtyThreeBelow", "hoursOf", "(I)I"⟩, 59), (⟨"ThirtyThreeBelow", "takes", "(IIII)I"⟩, 59), (⟨"ThirtyThreeBelow", "isOfReals", "(I)Z"⟩, 59), (⟨"ThirtyThreeBelow", "refusal", "(II)I"⟩, 59), (⟨"ThirtyThreeBelowModel", "add", "(I)I"⟩, 95), (⟨"ThirtyThreeBelowModel", "isBody", "(I)Z"⟩, 95), (⟨"ThirtyThreeBelowModel", "isHole", "(I)Z"⟩, 95), (⟨"ThirtyThreeBelowModel", "isMan", "(I)Z"⟩, 95), (⟨"ThirtyThreeBelowModel", "isReals", "(I)Z"⟩, 95), (⟨"ThirtyThreeBelowModel", "canBeAt", "(IIZ)I"⟩, 95), (⟨"ThirtyThreeBelowModel", "isOldBy", "(II)Z"⟩, 95), (⟨"ThirtyThreeBelowModel", "wrongBy", "(I)I"⟩, 95), (⟨"ThirtyThreeBelowModel", "isUnlike", "(III)Z"⟩, 95), (⟨"ThirtyThreeBelowModel", "isShelterBy", "(III)Z"⟩, 95), (⟨"ThirtyThreeBelowModel", "readLine", "()V"⟩, 95)]
theorem lw_r3 : ∀ q ∈ lw_privs_3, lw_okq q := List.forall_mem_cons.mpr ⟨lw_p32, List.forall_mem_cons.mpr ⟨lw_p33, List.forall_mem_cons.mpr ⟨lw_p34, List.forall_mem_cons.mpr ⟨lw_p35, List.forall_mem_cons.mpr ⟨lw_p36, List.forall_mem_cons.mpr ⟨lw_p37, List.forall_mem_cons.mpr ⟨lw_p38, List.forall_mem_cons.mpr ⟨lw_p39, List.forall_mem_cons.mpr ⟨lw_p40, List.forall_mem_cons.mpr ⟨lw_p41, List.forall_mem_cons.mpr ⟨lw_p42, List.forall_mem_cons.mpr ⟨lw_p43, List.forall_mem_cons.mpr ⟨lw_p44, List.forall_mem_cons.mpr ⟨lw_p45, List.forall_mem_cons.mpr ⟨lw_p46, List.forall_mem_cons.mpr ⟨lw_p47, fun _ h => absurd h List.not_mem_nil⟩⟩⟩⟩⟩⟩⟩⟩⟩⟩⟩⟩⟩⟩⟩⟩
theorem lw_p48 : lw_okq (⟨"ThirtyThreeBelowModel", "either", "()V"⟩, 95) := ⟨⟨by decide +kernel, by decide +kernel⟩, lw_t7 (List.mem_of_getElem? (i := 158) rfl), lw_t9 (List.mem_of_getElem? (i := 137) rfl), lw_t9 (List.mem_of_getElem? (i := 138) rfl)⟩
theorem lw_p49 : lw_okq (⟨"ThirtyThreeBelowModel", "all", "()V"⟩, 95) := ⟨⟨by decide +kernel, by decide +kernel⟩, lw_t7 (List.mem_of_getElem? (i := 158) rfl), lw_t9 (List.mem_of_getElem? (i := 141) rfl), lw_t9 (List.mem_of_getElem? (i := 142) rfl)⟩
theorem lw_p50 : lw_okq (⟨"ThirtyThreeBelowModel", "compared", "()V"⟩, 95) := ⟨⟨by decide +kernel, by decide +kernel⟩, lw_t7 (List.mem_of_getElem? (i := 158) rfl), lw_t9 (List.mem_of_getElem? (i := 145) rfl), lw_t9 (List.mem_of_getElem? (i := 146) rfl)⟩
theorem lw_p51 : lw_okq (⟨"ThirtyThreeBelowModel", "sum", "()V"⟩, 95) := ⟨⟨by decide +kernel, by decide +kernel⟩, lw_t7 (List.mem_of_getElem? (i := 158) rfl), lw_t9 (List.mem_of_getElem? (i := 149) rfl), lw_t9 (List.mem_of_getElem? (i := 150) rfl)⟩
theorem lw_p52 : lw_okq (⟨"ThirtyThreeBelowModel", "product", "()V"⟩, 95) := ⟨⟨by decide +kernel, by decide +kernel⟩, lw_t7 (List.mem_of_getElem? (i := 158) rfl), lw_t9 (List.mem_of_getElem? (i := 153) rfl), lw_t9 (List.mem_of_getElem? (i := 154) rfl)⟩
theorem lw_p53 : lw_okq (⟨"ThirtyThreeBelowModel", "operand", "()V"⟩, 95) := ⟨⟨by decide +kernel, by decide +kernel⟩, lw_t7 (List.mem_of_getElem? (i := 158) rfl), lw_t9 (List.mem_of_getElem? (i := 157) rfl), lw_t9 (List.mem_of_getElem? (i := 158) rfl)⟩
theorem lw_p54 : lw_okq (⟨"ThirtyThreeBelowModel", "look", "()I"⟩, 95) := ⟨⟨by decide +kernel, by decide +kernel⟩, lw_t7 (List.mem_of_getElem? (i := 158) rfl), lw_t9 (List.mem_of_getElem? (i := 161) rfl), lw_t9 (List.mem_of_getElem? (i := 162) rfl)⟩
theorem lw_p55 : lw_okq (⟨"ThirtyThreeBelowModel", "lay", "(II)V"⟩, 95) := ⟨⟨by decide +kernel, by decide +kernel⟩, lw_t7 (List.mem_of_getElem? (i := 158) rfl), lw_t9 (List.mem_of_getElem? (i := 168) rfl), lw_t9 (List.mem_of_getElem? (i := 169) rfl)⟩
theorem lw_p56 : lw_okq (⟨"ThirtyThreeBelowModel", "opens", "()Z"⟩, 95) := ⟨⟨by decide +kernel, by decide +kernel⟩, lw_t7 (List.mem_of_getElem? (i := 158) rfl), lw_t9 (List.mem_of_getElem? (i := 172) rfl), lw_t9 (List.mem_of_getElem? (i := 173) rfl)⟩
theorem lw_p57 : lw_okq (⟨"ThirtyThreeBelowModel", "faultHere", "()V"⟩, 95) := ⟨⟨by decide +kernel, by decide +kernel⟩, lw_t7 (List.mem_of_getElem? (i := 158) rfl), lw_t9 (List.mem_of_getElem? (i := 176) rfl), lw_t9 (List.mem_of_getElem? (i := 177) rfl)⟩
theorem lw_p58 : lw_okq (⟨"ThirtyThreeBelowModel", "forceOf", "(III)I"⟩, 95) := ⟨⟨by decide +kernel, by decide +kernel⟩, lw_t7 (List.mem_of_getElem? (i := 158) rfl), lw_t9 (List.mem_of_getElem? (i := 187) rfl), lw_t9 (List.mem_of_getElem? (i := 188) rfl)⟩
theorem lw_p59 : lw_okq (⟨"ThirtyThreeBelowModel", "firstThrough", "()I"⟩, 95) := ⟨⟨by decide +kernel, by decide +kernel⟩, lw_t7 (List.mem_of_getElem? (i := 158) rfl), lw_t9 (List.mem_of_getElem? (i := 191) rfl), lw_t9 (List.mem_of_getElem? (i := 192) rfl)⟩
theorem lw_p60 : lw_okq (⟨"ThirtyThreeBelowModel", "saysNow", "(III)I"⟩, 95) := ⟨⟨by decide +kernel, by decide +kernel⟩, lw_t7 (List.mem_of_getElem? (i := 158) rfl), lw_t9 (List.mem_of_getElem? (i := 199) rfl), lw_t9 (List.mem_of_getElem? (i := 200) rfl)⟩
theorem lw_p61 : lw_okq (⟨"ThirtyThreeBelowModel", "menBelow", "()I"⟩, 95) := ⟨⟨by decide +kernel, by decide +kernel⟩, lw_t7 (List.mem_of_getElem? (i := 158) rfl), lw_t9 (List.mem_of_getElem? (i := 203) rfl), lw_t9 (List.mem_of_getElem? (i := 204) rfl)⟩
theorem lw_p62 : lw_okq (⟨"ThirtyThreeBelowModel", "gives", "(I)I"⟩, 95) := ⟨⟨by decide +kernel, by decide +kernel⟩, lw_t7 (List.mem_of_getElem? (i := 158) rfl), lw_t9 (List.mem_of_getElem? (i := 207) rfl), lw_t9 (List.mem_of_getElem? (i := 208) rfl)⟩
theorem lw_p63 : lw_okq (⟨"ThirtyThreeBelowModel", "worked", "(III)I"⟩, 95) := ⟨⟨by decide +kernel, by decide +kernel⟩, lw_t7 (List.mem_of_getElem? (i := 158) rfl), lw_t9 (List.mem_of_getElem? (i := 211) rfl), lw_t9 (List.mem_of_getElem? (i := 212) rfl)⟩
def lw_privs_4 : List (MethodName × Nat) := [(⟨"ThirtyThreeBelowModel", "either", "()V"⟩, 95), (⟨"ThirtyThreeBelowModel", "all", "()V"⟩, 95), (⟨"ThirtyThreeBelowModel", "compared", "()V"⟩, 95), (⟨"ThirtyThreeBelowModel", "sum", "()V"⟩, 95), (⟨"ThirtyThreeBelowModel", "product", "()V"⟩, 95), (⟨"ThirtyThreeBelowModel", "operand", "()V"⟩, 95), (⟨"ThirtyThreeBelowModel", "look", "()I"⟩, 95), (⟨"ThirtyThreeBelowModel", "lay", "(II)V"⟩, 95), (⟨"ThirtyThreeBelowModel", "opens", "()Z"⟩, 95), (⟨"ThirtyThreeBelowModel", "faultHere", "()V"⟩, 95), (⟨"ThirtyThreeBelowModel", "forceOf", "(III)I"⟩, 95), (⟨"ThirtyThreeBelowModel", "firstThrough", "()I"⟩, 95), (⟨"ThirtyThreeBelowModel", "saysNow", "(III)I"⟩, 95), (⟨"ThirtyThreeBelowModel", "menBelow", "()I"⟩, 95), (⟨"ThirtyThreeBelowModel", "gives", "(I)I"⟩, 95), (⟨"ThirtyThreeBelowModel", "worked", "(III)I"⟩, 95)]
theorem lw_r4 : ∀ q ∈ lw_privs_4, lw_okq q := List.forall_mem_cons.mpr ⟨lw_p48, List.forall_mem_cons.mpr ⟨lw_p49, List.forall_mem_cons.mpr ⟨lw_p50, List.forall_mem_cons.mpr ⟨lw_p51, List.forall_mem_cons.mpr ⟨lw_p52, List.forall_mem_cons.mpr ⟨lw_p53, List.forall_mem_cons.mpr ⟨lw_p54, List.forall_mem_cons.mpr ⟨lw_p55, List.forall_mem_cons.mpr ⟨lw_p56, List.forall_mem_cons.mpr ⟨lw_p57, List.forall_mem_cons.mpr ⟨lw_p58, List.forall_mem_cons.mpr ⟨lw_p59, List.forall_mem_cons.mpr ⟨lw_p60, List.forall_mem_cons.mpr ⟨lw_p61, List.forall_mem_cons.mpr ⟨lw_p62, List.forall_mem_cons.mpr ⟨lw_p63, fun _ h => absurd h List.not_mem_nil⟩⟩⟩⟩⟩⟩⟩⟩⟩⟩⟩⟩⟩⟩⟩⟩
theorem lw_p64 : lw_okq (⟨"ThirtyThreeBelowModel", "drill", "()V"⟩, 95) := ⟨⟨by decide +kernel, by decide +kernel⟩, lw_t7 (List.mem_of_getElem? (i := 158) rfl), lw_t9 (List.mem_of_getElem? (i := 230) rfl), lw_t9 (List.mem_of_getElem? (i := 231) rfl)⟩
theorem lw_p65 : lw_okq (⟨"ThirtyThreeBelowModel", "bore", "(II)V"⟩, 95) := ⟨⟨by decide +kernel, by decide +kernel⟩, lw_t7 (List.mem_of_getElem? (i := 158) rfl), lw_t9 (List.mem_of_getElem? (i := 234) rfl), lw_t9 (List.mem_of_getElem? (i := 235) rfl)⟩
theorem lw_p66 : lw_okq (⟨"ThirtyThreeBelowModel", "comeDown", "()V"⟩, 95) := ⟨⟨by decide +kernel, by decide +kernel⟩, lw_t7 (List.mem_of_getElem? (i := 158) rfl), lw_t9 (List.mem_of_getElem? (i := 238) rfl), lw_t9 (List.mem_of_getElem? (i := 239) rfl)⟩
theorem lw_p67 : lw_okq (⟨"ThirtyThreeBelowModel", "eat", "()V"⟩, 95) := ⟨⟨by decide +kernel, by decide +kernel⟩, lw_t7 (List.mem_of_getElem? (i := 158) rfl), lw_t10 (List.mem_of_getElem? (i := 2) rfl), lw_t10 (List.mem_of_getElem? (i := 3) rfl)⟩
theorem lw_p68 : lw_okq (⟨"ThirtyThreeBelowModel", "lastsBy", "(II)I"⟩, 95) := ⟨⟨by decide +kernel, by decide +kernel⟩, lw_t7 (List.mem_of_getElem? (i := 158) rfl), lw_t10 (List.mem_of_getElem? (i := 10) rfl), lw_t10 (List.mem_of_getElem? (i := 11) rfl)⟩
theorem lw_p69 : lw_okq (⟨"ThirtyThreeBelowModel", "costNext", "(II)I"⟩, 95) := ⟨⟨by decide +kernel, by decide +kernel⟩, lw_t7 (List.mem_of_getElem? (i := 158) rfl), lw_t10 (List.mem_of_getElem? (i := 35) rfl), lw_t10 (List.mem_of_getElem? (i := 36) rfl)⟩
theorem lw_p70 : lw_okq (⟨"ThirtyThreeBelowModel", "minutesAt", "(IIII)I"⟩, 95) := ⟨⟨by decide +kernel, by decide +kernel⟩, lw_t7 (List.mem_of_getElem? (i := 158) rfl), lw_t10 (List.mem_of_getElem? (i := 63) rfl), lw_t10 (List.mem_of_getElem? (i := 64) rfl)⟩
theorem lw_p71 : lw_okq (⟨"ThirtyThreeBelowModel", "bores", "(II)I"⟩, 95) := ⟨⟨by decide +kernel, by decide +kernel⟩, lw_t7 (List.mem_of_getElem? (i := 158) rfl), lw_t10 (List.mem_of_getElem? (i := 91) rfl), lw_t10 (List.mem_of_getElem? (i := 92) rfl)⟩
theorem lw_p72 : lw_okq (⟨"ThirtyThreeBelowModel", "ran", "(I)V"⟩, 95) := ⟨⟨by decide +kernel, by decide +kernel⟩, lw_t7 (List.mem_of_getElem? (i := 158) rfl), lw_t10 (List.mem_of_getElem? (i := 95) rfl), lw_t10 (List.mem_of_getElem? (i := 96) rfl)⟩
theorem lw_p73 : lw_okq (⟨"ThirtyThreeBelowModel", "shaftBores", "(II)I"⟩, 95) := ⟨⟨by decide +kernel, by decide +kernel⟩, lw_t7 (List.mem_of_getElem? (i := 158) rfl), lw_t10 (List.mem_of_getElem? (i := 99) rfl), lw_t10 (List.mem_of_getElem? (i := 100) rfl)⟩
theorem lw_p74 : lw_okq (⟨"ThirtyThreeBelowModel", "wayBores", "(II)I"⟩, 95) := ⟨⟨by decide +kernel, by decide +kernel⟩, lw_t7 (List.mem_of_getElem? (i := 158) rfl), lw_t10 (List.mem_of_getElem? (i := 103) rfl), lw_t10 (List.mem_of_getElem? (i := 104) rfl)⟩
theorem lw_p75 : lw_okq (⟨"ThirtyThreeBelowModel", "plainBores", "(II)I"⟩, 95) := ⟨⟨by decide +kernel, by decide +kernel⟩, lw_t7 (List.mem_of_getElem? (i := 158) rfl), lw_t10 (List.mem_of_getElem? (i := 107) rfl), lw_t10 (List.mem_of_getElem? (i := 108) rfl)⟩
theorem lw_p76 : lw_okq (⟨"ThirtyThreeBelowModel", "carries", "(II)I"⟩, 95) := ⟨⟨by decide +kernel, by decide +kernel⟩, lw_t7 (List.mem_of_getElem? (i := 158) rfl), lw_t10 (List.mem_of_getElem? (i := 111) rfl), lw_t10 (List.mem_of_getElem? (i := 112) rfl)⟩
theorem lw_p77 : lw_okq (⟨"ThirtyThreeBelowModel", "plainCarries", "(II)I"⟩, 95) := ⟨⟨by decide +kernel, by decide +kernel⟩, lw_t7 (List.mem_of_getElem? (i := 158) rfl), lw_t10 (List.mem_of_getElem? (i := 115) rfl), lw_t10 (List.mem_of_getElem? (i := 116) rfl)⟩
theorem lw_p78 : lw_okq (⟨"ThirtyThreeBelowModel", "holdsBy", "(II)I"⟩, 95) := ⟨⟨by decide +kernel, by decide +kernel⟩, lw_t7 (List.mem_of_getElem? (i := 158) rfl), lw_t10 (List.mem_of_getElem? (i := 119) rfl), lw_t10 (List.mem_of_getElem? (i := 120) rfl)⟩
theorem lw_p79 : lw_okq (⟨"ThirtyThreeBelowModel", "plainHolds", "(II)I"⟩, 95) := ⟨⟨by decide +kernel, by decide +kernel⟩, lw_t7 (List.mem_of_getElem? (i := 158) rfl), lw_t10 (List.mem_of_getElem? (i := 123) rfl), lw_t10 (List.mem_of_getElem? (i := 124) rfl)⟩
def lw_privs_5 : List (MethodName × Nat) := [(⟨"ThirtyThreeBelowModel", "drill", "()V"⟩, 95), (⟨"ThirtyThreeBelowModel", "bore", "(II)V"⟩, 95), (⟨"ThirtyThreeBelowModel", "comeDown", "()V"⟩, 95), (⟨"ThirtyThreeBelowModel", "eat", "()V"⟩, 95), (⟨"ThirtyThreeBelowModel", "lastsBy", "(II)I"⟩, 95), (⟨"ThirtyThreeBelowModel", "costNext", "(II)I"⟩, 95), (⟨"ThirtyThreeBelowModel", "minutesAt", "(IIII)I"⟩, 95), (⟨"ThirtyThreeBelowModel", "bores", "(II)I"⟩, 95), (⟨"ThirtyThreeBelowModel", "ran", "(I)V"⟩, 95), (⟨"ThirtyThreeBelowModel", "shaftBores", "(II)I"⟩, 95), (⟨"ThirtyThreeBelowModel", "wayBores", "(II)I"⟩, 95), (⟨"ThirtyThreeBelowModel", "plainBores", "(II)I"⟩, 95), (⟨"ThirtyThreeBelowModel", "carries", "(II)I"⟩, 95), (⟨"ThirtyThreeBelowModel", "plainCarries", "(II)I"⟩, 95), (⟨"ThirtyThreeBelowModel", "holdsBy", "(II)I"⟩, 95), (⟨"ThirtyThreeBelowModel", "plainHolds", "(II)I"⟩, 95)]
theorem lw_r5 : ∀ q ∈ lw_privs_5, lw_okq q := List.forall_mem_cons.mpr ⟨lw_p64, List.forall_mem_cons.mpr ⟨lw_p65, List.forall_mem_cons.mpr ⟨lw_p66, List.forall_mem_cons.mpr ⟨lw_p67, List.forall_mem_cons.mpr ⟨lw_p68, List.forall_mem_cons.mpr ⟨lw_p69, List.forall_mem_cons.mpr ⟨lw_p70, List.forall_mem_cons.mpr ⟨lw_p71, List.forall_mem_cons.mpr ⟨lw_p72, List.forall_mem_cons.mpr ⟨lw_p73, List.forall_mem_cons.mpr ⟨lw_p74, List.forall_mem_cons.mpr ⟨lw_p75, List.forall_mem_cons.mpr ⟨lw_p76, List.forall_mem_cons.mpr ⟨lw_p77, List.forall_mem_cons.mpr ⟨lw_p78, List.forall_mem_cons.mpr ⟨lw_p79, fun _ h => absurd h List.not_mem_nil⟩⟩⟩⟩⟩⟩⟩⟩⟩⟩⟩⟩⟩⟩⟩⟩
theorem lw_p80 : lw_okq (⟨"ThirtyThreeBelowModel", "tells", "(II)I"⟩, 95) := ⟨⟨by decide +kernel, by decide +kernel⟩, lw_t7 (List.mem_of_getElem? (i := 158) rfl), lw_t10 (List.mem_of_getElem? (i := 127) rfl), lw_t10 (List.mem_of_getElem? (i := 128) rfl)⟩
theorem lw_p81 : lw_okq (⟨"ThirtyThreeBelowModel", "plainTells", "(II)I"⟩, 95) := ⟨⟨by decide +kernel, by decide +kernel⟩, lw_t7 (List.mem_of_getElem? (i := 158) rfl), lw_t10 (List.mem_of_getElem? (i := 131) rfl), lw_t10 (List.mem_of_getElem? (i := 132) rfl)⟩
theorem lw_p82 : lw_okq (⟨"ThirtyThreeBelowModel", "whyNoPlace", "(II)I"⟩, 95) := ⟨⟨by decide +kernel, by decide +kernel⟩, lw_t7 (List.mem_of_getElem? (i := 158) rfl), lw_t10 (List.mem_of_getElem? (i := 157) rfl), lw_t10 (List.mem_of_getElem? (i := 158) rfl)⟩
def lw_privs_6 : List (MethodName × Nat) := [(⟨"ThirtyThreeBelowModel", "tells", "(II)I"⟩, 95), (⟨"ThirtyThreeBelowModel", "plainTells", "(II)I"⟩, 95), (⟨"ThirtyThreeBelowModel", "whyNoPlace", "(II)I"⟩, 95)]
theorem lw_r6 : ∀ q ∈ lw_privs_6, lw_okq q := List.forall_mem_cons.mpr ⟨lw_p80, List.forall_mem_cons.mpr ⟨lw_p81, List.forall_mem_cons.mpr ⟨lw_p82, fun _ h => absurd h List.not_mem_nil⟩⟩⟩
def lw_privs : List (MethodName × Nat) := lw_privs_1 ++ (lw_privs_2 ++ (lw_privs_3 ++ (lw_privs_4 ++ (lw_privs_5 ++ (lw_privs_6)))))
def lw_tbl : List Cond := k2_sels lw_privs ++ tables_1
theorem lw_privs_ok : ∀ q ∈ lw_privs, lw_okq q := by
  show ∀ q ∈ lw_privs_1 ++ (lw_privs_2 ++ (lw_privs_3 ++ (lw_privs_4 ++ (lw_privs_5 ++ (lw_privs_6))))), lw_okq q
  exact List.forall_mem_append.mpr ⟨lw_r1, List.forall_mem_append.mpr ⟨lw_r2, List.forall_mem_append.mpr ⟨lw_r3, List.forall_mem_append.mpr ⟨lw_r4, List.forall_mem_append.mpr ⟨lw_r5, lw_r6⟩⟩⟩⟩⟩
-- ===== ONE list of words for every method: the tables' words that hold all through a run =====
def lw_all : List Cond := lw_tbl.filter goodWord
/-- a word of the tables by its place: claim/WORDS.tsv -/
theorem lw_w {w : Cond} (i : Nat) (h : lw_tbl[i]? = some w) (g : goodWord w = true) : w ∈ lw_all := List.mem_filter.mpr ⟨List.mem_of_getElem? h, g⟩
theorem lw_all_tbl {w : Cond} (h : w ∈ lw_all) : w ∈ lw_tbl := (List.mem_filter.mp h).1
theorem lw_self : GoodIn lw_all lw_all := fun w h => ⟨h, good_of_word (List.mem_filter.mp h).2⟩
/-- a class's field words, by their places -/
theorem lw_in (ws : List Cond) (ps : List Nat) (hp : ws = ps.filterMap (fun i => lw_tbl[i]?)) (hg : ws.all goodWord = true) : ∀ w ∈ ws, w ∈ lw_all := by
  intro w h
  have h1 := List.all_eq_true.mp hg w h
  rw [hp] at h
  obtain ⟨i, -, hi⟩ := List.mem_filterMap.mp h
  exact lw_w i hi h1
/-- the words of a contract for the method y with code b, L locals, answer r -/
abbrev ws_ (y : MethodName) (b : ByteArray) (L : Nat) (r : Option FieldType) : List Cond := Cond.code y b L r :: lw_all
theorem lw_meth {y : MethodName} {b : ByteArray} {L : Nat} {r : Option FieldType} (h : Cond.code y b L r ∈ lw_all) : GoodIn lw_all (ws_ y b L r) := by
  intro w hw
  rcases List.mem_cons.mp hw with e | e
  · rw [e]
    exact lw_self _ h
  · exact lw_self _ e
theorem lw_app {a c : List Cond} (ha : ∀ w ∈ a, w ∈ lw_all) (hc : GoodIn lw_all c) : GoodIn lw_all (a ++ c) := by
  intro w hw
  rcases List.mem_append.mp hw with e | e
  · exact lw_self w (ha w e)
  · exact hc w e
/-- what a call through an object asks: cwV n hts (lw_V ..) -/
theorem lw_V {own : String} {idx : Nat} {C : String} {y : MethodName} {b : ByteArray} {L : Nat} {r : Option FieldType} (h1 : Cond.methodLink own idx y ∈ lw_all) (h2 : Cond.instanceMethod y ∈ lw_all) (h3 : Cond.selects C y y ∈ lw_all) (h4 : Cond.initialized C ∈ lw_all) (h5 : Cond.code y b L r ∈ lw_all) : GoodIn lw_all (wsV own idx C y (ws_ y b L r)) := by
  refine lw_app ?_ (lw_meth h5)
  intro w hw
  simp only [List.mem_cons, List.not_mem_nil, or_false] at hw
  rcases hw with e | e | e | e
  · rw [e]; exact h1
  · rw [e]; exact h2
  · rw [e]; exact h3
  · rw [e]; exact h4
/-- what a static call asks: va_cwS n hts (lw_S ..) -/
theorem lw_S {own : String} {idx : Nat} {y : MethodName} {b : ByteArray} {L : Nat} {r : Option FieldType} (h1 : Cond.methodLink own idx y ∈ lw_all) (h2 : Cond.static y ∈ lw_all) (h3 : Cond.initialized y.cls ∈ lw_all) (h4 : Cond.code y b L r ∈ lw_all) : GoodIn lw_all (va_wsS own idx y (ws_ y b L r)) := by
  refine lw_app ?_ (lw_meth h4)
  intro w hw
  simp only [List.mem_cons, List.not_mem_nil, or_false] at hw
  rcases hw with e | e | e
  · rw [e]; exact h1
  · rw [e]; exact h2
  · rw [e]; exact h3
/-- the words of a contract for a method WITH HANDLERS (hh: its table) -/
abbrev wsW_ (y : MethodName) (b : ByteArray) (L : Nat) (r : Option FieldType) (hh : List (Nat × Nat × Nat × Nat)) : List Cond := Cond.codeWith y b L r hh :: lw_all
theorem lw_methW {y : MethodName} {b : ByteArray} {L : Nat} {r : Option FieldType} {hh : List (Nat × Nat × Nat × Nat)} (h : Cond.codeWith y b L r hh ∈ lw_all) : GoodIn lw_all (wsW_ y b L r hh) := by
  intro w hw
  rcases List.mem_cons.mp hw with e | e
  · rw [e]
    exact lw_self _ h
  · exact lw_self _ e
/-- any list of words by their places (lw_in), good -/
theorem lw_good {ws : List Cond} (h : ∀ w ∈ ws, w ∈ lw_all) : GoodIn lw_all ws := fun w hw => lw_self w (h w hw)
/-- what a call of a method with handlers asks: vx_cwVW n hts (lw_VW ..), vx_cwSW n hts (lw_SW ..) -/
theorem lw_VW {own : String} {idx : Nat} {C : String} {y : MethodName} {b : ByteArray} {L : Nat} {r : Option FieldType} {hh : List (Nat × Nat × Nat × Nat)} (h1 : Cond.methodLink own idx y ∈ lw_all) (h2 : Cond.instanceMethod y ∈ lw_all) (h3 : Cond.selects C y y ∈ lw_all) (h4 : Cond.initialized C ∈ lw_all) (h5 : Cond.codeWith y b L r hh ∈ lw_all) : GoodIn lw_all (wsV own idx C y (wsW_ y b L r hh)) := by
  refine lw_app ?_ (lw_methW h5)
  intro w hw
  simp only [List.mem_cons, List.not_mem_nil, or_false] at hw
  rcases hw with e | e | e | e
  · rw [e]; exact h1
  · rw [e]; exact h2
  · rw [e]; exact h3
  · rw [e]; exact h4
theorem lw_SW {own : String} {idx : Nat} {y : MethodName} {b : ByteArray} {L : Nat} {r : Option FieldType} {hh : List (Nat × Nat × Nat × Nat)} (h1 : Cond.methodLink own idx y ∈ lw_all) (h2 : Cond.static y ∈ lw_all) (h3 : Cond.initialized y.cls ∈ lw_all) (h4 : Cond.codeWith y b L r hh ∈ lw_all) : GoodIn lw_all (va_wsS own idx y (wsW_ y b L r hh)) := by
  refine lw_app ?_ (lw_methW h4)
  intro w hw
  simp only [List.mem_cons, List.not_mem_nil, or_false] at hw
  rcases hw with e | e | e
  · rw [e]; exact h1
  · rw [e]; exact h2
  · rw [e]; exact h3
/-- a word by its place in its run of the tables -/
theorem lw_at {r : List Cond} (hr : ∀ w ∈ r, w ∈ lw_tbl) {w : Cond} (i : Nat) (h : r[i]? = some w) : w ∈ lw_tbl := hr w (List.mem_of_getElem? h)
theorem lw_g {w : Cond} (h : w ∈ lw_tbl) (g : goodWord w = true) : w ∈ lw_all := List.mem_filter.mpr ⟨h, g⟩
theorem lw_ms : ∀ w ∈ k2_sels lw_privs, w ∈ lw_tbl := fun w h => show w ∈ k2_sels lw_privs ++ tables_1 from List.mem_append_left _ h
theorem lw_m1 : ∀ w ∈ tables_1_1, w ∈ lw_tbl := fun w h => show w ∈ k2_sels lw_privs ++ tables_1 from List.mem_append_right (k2_sels lw_privs) (show w ∈ tables_1 from List.mem_append_left _ h)
theorem lw_m2 : ∀ w ∈ tables_1_2, w ∈ lw_tbl := fun w h => show w ∈ k2_sels lw_privs ++ tables_1 from List.mem_append_right (k2_sels lw_privs) (show w ∈ tables_1 from List.mem_append_right _ (List.mem_append_left _ h))
theorem lw_m3 : ∀ w ∈ tables_1_3, w ∈ lw_tbl := fun w h => show w ∈ k2_sels lw_privs ++ tables_1 from List.mem_append_right (k2_sels lw_privs) (show w ∈ tables_1 from List.mem_append_right _ (List.mem_append_right _ (List.mem_append_left _ h)))
theorem lw_m4 : ∀ w ∈ tables_1_4, w ∈ lw_tbl := fun w h => show w ∈ k2_sels lw_privs ++ tables_1 from List.mem_append_right (k2_sels lw_privs) (show w ∈ tables_1 from List.mem_append_right _ (List.mem_append_right _ (List.mem_append_right _ (List.mem_append_left _ h))))
theorem lw_m5 : ∀ w ∈ tables_1_5, w ∈ lw_tbl := fun w h => show w ∈ k2_sels lw_privs ++ tables_1 from List.mem_append_right (k2_sels lw_privs) (show w ∈ tables_1 from List.mem_append_right _ (List.mem_append_right _ (List.mem_append_right _ (List.mem_append_right _ (List.mem_append_left _ h)))))
theorem lw_m6 : ∀ w ∈ tables_1_6, w ∈ lw_tbl := fun w h => show w ∈ k2_sels lw_privs ++ tables_1 from List.mem_append_right (k2_sels lw_privs) (show w ∈ tables_1 from List.mem_append_right _ (List.mem_append_right _ (List.mem_append_right _ (List.mem_append_right _ (List.mem_append_right _ (List.mem_append_left _ h))))))
theorem lw_m7 : ∀ w ∈ tables_1_7, w ∈ lw_tbl := fun w h => show w ∈ k2_sels lw_privs ++ tables_1 from List.mem_append_right (k2_sels lw_privs) (show w ∈ tables_1 from List.mem_append_right _ (List.mem_append_right _ (List.mem_append_right _ (List.mem_append_right _ (List.mem_append_right _ (List.mem_append_right _ (List.mem_append_left _ h)))))))
theorem lw_m8 : ∀ w ∈ tables_1_8, w ∈ lw_tbl := fun w h => show w ∈ k2_sels lw_privs ++ tables_1 from List.mem_append_right (k2_sels lw_privs) (show w ∈ tables_1 from List.mem_append_right _ (List.mem_append_right _ (List.mem_append_right _ (List.mem_append_right _ (List.mem_append_right _ (List.mem_append_right _ (List.mem_append_right _ (List.mem_append_left _ h))))))))
theorem lw_m9 : ∀ w ∈ tables_1_9, w ∈ lw_tbl := fun w h => show w ∈ k2_sels lw_privs ++ tables_1 from List.mem_append_right (k2_sels lw_privs) (show w ∈ tables_1 from List.mem_append_right _ (List.mem_append_right _ (List.mem_append_right _ (List.mem_append_right _ (List.mem_append_right _ (List.mem_append_right _ (List.mem_append_right _ (List.mem_append_right _ (List.mem_append_left _ h)))))))))
theorem lw_m10 : ∀ w ∈ tables_1_10, w ∈ lw_tbl := fun w h => show w ∈ k2_sels lw_privs ++ tables_1 from List.mem_append_right (k2_sels lw_privs) (show w ∈ tables_1 from List.mem_append_right _ (List.mem_append_right _ (List.mem_append_right _ (List.mem_append_right _ (List.mem_append_right _ (List.mem_append_right _ (List.mem_append_right _ (List.mem_append_right _ (List.mem_append_right _ (List.mem_append_left _ h))))))))))
theorem lw_m11 : ∀ w ∈ tables_1_11, w ∈ lw_tbl := fun w h => show w ∈ k2_sels lw_privs ++ tables_1 from List.mem_append_right (k2_sels lw_privs) (show w ∈ tables_1 from List.mem_append_right _ (List.mem_append_right _ (List.mem_append_right _ (List.mem_append_right _ (List.mem_append_right _ (List.mem_append_right _ (List.mem_append_right _ (List.mem_append_right _ (List.mem_append_right _ (List.mem_append_right _ h))))))))))
theorem qs0 : (Cond.selects "java/lang/Throwable" ⟨"java/lang/Throwable", "fillInStackTrace", "(I)Ljava/lang/Throwable;"⟩ ⟨"java/lang/Throwable", "fillInStackTrace", "(I)Ljava/lang/Throwable;"⟩) ∈ lw_all := lw_g (lw_at lw_ms 0 rfl) rfl
theorem qs1 : (Cond.selects "ThirtyThreeBelow" ⟨"ThirtyThreeBelow", "add", "(LThirtyThreeBelow$Body;)I"⟩ ⟨"ThirtyThreeBelow", "add", "(LThirtyThreeBelow$Body;)I"⟩) ∈ lw_all := lw_g (lw_at lw_ms 1 rfl) rfl
theorem qs2 : (Cond.selects "ThirtyThreeBelow" ⟨"ThirtyThreeBelow", "isBody", "(I)Z"⟩ ⟨"ThirtyThreeBelow", "isBody", "(I)Z"⟩) ∈ lw_all := lw_g (lw_at lw_ms 2 rfl) rfl
theorem qs3 : (Cond.selects "ThirtyThreeBelow" ⟨"ThirtyThreeBelow", "holeOf", "(I)LThirtyThreeBelow$Hole;"⟩ ⟨"ThirtyThreeBelow", "holeOf", "(I)LThirtyThreeBelow$Hole;"⟩) ∈ lw_all := lw_g (lw_at lw_ms 3 rfl) rfl
theorem qs4 : (Cond.selects "ThirtyThreeBelow" ⟨"ThirtyThreeBelow", "manOf", "(I)LThirtyThreeBelow$Man;"⟩ ⟨"ThirtyThreeBelow", "manOf", "(I)LThirtyThreeBelow$Man;"⟩) ∈ lw_all := lw_g (lw_at lw_ms 4 rfl) rfl
theorem qs5 : (Cond.selects "ThirtyThreeBelow" ⟨"ThirtyThreeBelow", "real", "(Ljava/lang/Object;J)D"⟩ ⟨"ThirtyThreeBelow", "real", "(Ljava/lang/Object;J)D"⟩) ∈ lw_all := lw_g (lw_at lw_ms 5 rfl) rfl
theorem qs6 : (Cond.selects "ThirtyThreeBelow" ⟨"ThirtyThreeBelow", "isMap", "(I)Z"⟩ ⟨"ThirtyThreeBelow", "isMap", "(I)Z"⟩) ∈ lw_all := lw_g (lw_at lw_ms 6 rfl) rfl
theorem qs7 : (Cond.selects "ThirtyThreeBelow" ⟨"ThirtyThreeBelow", "isOld", "(III)Z"⟩ ⟨"ThirtyThreeBelow", "isOld", "(III)Z"⟩) ∈ lw_all := lw_g (lw_at lw_ms 7 rfl) rfl
theorem qs8 : (Cond.selects "ThirtyThreeBelow" ⟨"ThirtyThreeBelow", "isLike", "(IIII)Z"⟩ ⟨"ThirtyThreeBelow", "isLike", "(IIII)Z"⟩) ∈ lw_all := lw_g (lw_at lw_ms 8 rfl) rfl
theorem qs9 : (Cond.selects "ThirtyThreeBelow" ⟨"ThirtyThreeBelow", "isOfShelter", "(III)Z"⟩ ⟨"ThirtyThreeBelow", "isOfShelter", "(III)Z"⟩) ∈ lw_all := lw_g (lw_at lw_ms 9 rfl) rfl
theorem qs10 : (Cond.selects "ThirtyThreeBelow$Reader" ⟨"ThirtyThreeBelow$Reader", "line", "(LThirtyThreeBelow$Text;)V"⟩ ⟨"ThirtyThreeBelow$Reader", "line", "(LThirtyThreeBelow$Text;)V"⟩) ∈ lw_all := lw_g (lw_at lw_ms 10 rfl) rfl
theorem qs11 : (Cond.selects "ThirtyThreeBelow$Reader" ⟨"ThirtyThreeBelow$Reader", "any", "()LThirtyThreeBelow$Term;"⟩ ⟨"ThirtyThreeBelow$Reader", "any", "()LThirtyThreeBelow$Term;"⟩) ∈ lw_all := lw_g (lw_at lw_ms 11 rfl) rfl
theorem qs12 : (Cond.selects "ThirtyThreeBelow$Reader" ⟨"ThirtyThreeBelow$Reader", "all", "()LThirtyThreeBelow$Term;"⟩ ⟨"ThirtyThreeBelow$Reader", "all", "()LThirtyThreeBelow$Term;"⟩) ∈ lw_all := lw_g (lw_at lw_ms 12 rfl) rfl
theorem qs13 : (Cond.selects "ThirtyThreeBelow$Reader" ⟨"ThirtyThreeBelow$Reader", "compared", "()LThirtyThreeBelow$Term;"⟩ ⟨"ThirtyThreeBelow$Reader", "compared", "()LThirtyThreeBelow$Term;"⟩) ∈ lw_all := lw_g (lw_at lw_ms 13 rfl) rfl
theorem qs14 : (Cond.selects "ThirtyThreeBelow$Reader" ⟨"ThirtyThreeBelow$Reader", "sum", "()LThirtyThreeBelow$Term;"⟩ ⟨"ThirtyThreeBelow$Reader", "sum", "()LThirtyThreeBelow$Term;"⟩) ∈ lw_all := lw_g (lw_at lw_ms 14 rfl) rfl
theorem qs15 : (Cond.selects "ThirtyThreeBelow$Reader" ⟨"ThirtyThreeBelow$Reader", "product", "()LThirtyThreeBelow$Term;"⟩ ⟨"ThirtyThreeBelow$Reader", "product", "()LThirtyThreeBelow$Term;"⟩) ∈ lw_all := lw_g (lw_at lw_ms 15 rfl) rfl
theorem qs16 : (Cond.selects "ThirtyThreeBelow$Reader" ⟨"ThirtyThreeBelow$Reader", "one", "()LThirtyThreeBelow$Term;"⟩ ⟨"ThirtyThreeBelow$Reader", "one", "()LThirtyThreeBelow$Term;"⟩) ∈ lw_all := lw_g (lw_at lw_ms 16 rfl) rfl
theorem qs17 : (Cond.selects "ThirtyThreeBelow$Reader" ⟨"ThirtyThreeBelow$Reader", "next", "()I"⟩ ⟨"ThirtyThreeBelow$Reader", "next", "()I"⟩) ∈ lw_all := lw_g (lw_at lw_ms 17 rfl) rfl
theorem qs18 : (Cond.selects "ThirtyThreeBelow$Reader" ⟨"ThirtyThreeBelow$Reader", "deeper", "()V"⟩ ⟨"ThirtyThreeBelow$Reader", "deeper", "()V"⟩) ∈ lw_all := lw_g (lw_at lw_ms 18 rfl) rfl
theorem qs19 : (Cond.selects "ThirtyThreeBelow$Reader" ⟨"ThirtyThreeBelow$Reader", "take", "(I)Z"⟩ ⟨"ThirtyThreeBelow$Reader", "take", "(I)Z"⟩) ∈ lw_all := lw_g (lw_at lw_ms 19 rfl) rfl
theorem qs20 : (Cond.selects "ThirtyThreeBelow" ⟨"ThirtyThreeBelow", "force", "(III)I"⟩ ⟨"ThirtyThreeBelow", "force", "(III)I"⟩) ∈ lw_all := lw_g (lw_at lw_ms 20 rfl) rfl
theorem qs21 : (Cond.selects "ThirtyThreeBelow" ⟨"ThirtyThreeBelow", "wasThroughBy", "(I)Z"⟩ ⟨"ThirtyThreeBelow", "wasThroughBy", "(I)Z"⟩) ∈ lw_all := lw_g (lw_at lw_ms 21 rfl) rfl
theorem qs22 : (Cond.selects "ThirtyThreeBelow" ⟨"ThirtyThreeBelow", "gives", "(ILThirtyThreeBelow$Man;I)I"⟩ ⟨"ThirtyThreeBelow", "gives", "(ILThirtyThreeBelow$Man;I)I"⟩) ∈ lw_all := lw_g (lw_at lw_ms 22 rfl) rfl
theorem qs23 : (Cond.selects "ThirtyThreeBelow" ⟨"ThirtyThreeBelow", "belowMany", "()I"⟩ ⟨"ThirtyThreeBelow", "belowMany", "()I"⟩) ∈ lw_all := lw_g (lw_at lw_ms 23 rfl) rfl
theorem qs24 : (Cond.selects "ThirtyThreeBelow" ⟨"ThirtyThreeBelow", "belowOf", "(I)LThirtyThreeBelow$Man;"⟩ ⟨"ThirtyThreeBelow", "belowOf", "(I)LThirtyThreeBelow$Man;"⟩) ∈ lw_all := lw_g (lw_at lw_ms 24 rfl) rfl
theorem qs25 : (Cond.selects "ThirtyThreeBelow" ⟨"ThirtyThreeBelow", "throughMany", "()I"⟩ ⟨"ThirtyThreeBelow", "throughMany", "()I"⟩) ∈ lw_all := lw_g (lw_at lw_ms 25 rfl) rfl
theorem qs26 : (Cond.selects "ThirtyThreeBelow" ⟨"ThirtyThreeBelow", "drill", "()V"⟩ ⟨"ThirtyThreeBelow", "drill", "()V"⟩) ∈ lw_all := lw_g (lw_at lw_ms 26 rfl) rfl
theorem qs27 : (Cond.selects "ThirtyThreeBelow" ⟨"ThirtyThreeBelow", "isShelterAt", "(II)Z"⟩ ⟨"ThirtyThreeBelow", "isShelterAt", "(II)Z"⟩) ∈ lw_all := lw_g (lw_at lw_ms 27 rfl) rfl
theorem qs28 : (Cond.selects "ThirtyThreeBelow" ⟨"ThirtyThreeBelow", "arrive", "()V"⟩ ⟨"ThirtyThreeBelow", "arrive", "()V"⟩) ∈ lw_all := lw_g (lw_at lw_ms 28 rfl) rfl
theorem qs29 : (Cond.selects "ThirtyThreeBelow" ⟨"ThirtyThreeBelow", "feedAll", "()V"⟩ ⟨"ThirtyThreeBelow", "feedAll", "()V"⟩) ∈ lw_all := lw_g (lw_at lw_ms 29 rfl) rfl
theorem qs30 : (Cond.selects "ThirtyThreeBelow" ⟨"ThirtyThreeBelow", "moveRock", "(I)V"⟩ ⟨"ThirtyThreeBelow", "moveRock", "(I)V"⟩) ∈ lw_all := lw_g (lw_at lw_ms 30 rfl) rfl
theorem qs31 : (Cond.selects "ThirtyThreeBelow" ⟨"ThirtyThreeBelow", "lasts", "(II)I"⟩ ⟨"ThirtyThreeBelow", "lasts", "(II)I"⟩) ∈ lw_all := lw_g (lw_at lw_ms 31 rfl) rfl
theorem qs32 : (Cond.selects "ThirtyThreeBelow" ⟨"ThirtyThreeBelow", "lateOf", "(II)I"⟩ ⟨"ThirtyThreeBelow", "lateOf", "(II)I"⟩) ∈ lw_all := lw_g (lw_at lw_ms 32 rfl) rfl
theorem qs33 : (Cond.selects "ThirtyThreeBelow" ⟨"ThirtyThreeBelow", "hoursOf", "(I)I"⟩ ⟨"ThirtyThreeBelow", "hoursOf", "(I)I"⟩) ∈ lw_all := lw_g (lw_at lw_ms 33 rfl) rfl
theorem qs34 : (Cond.selects "ThirtyThreeBelow" ⟨"ThirtyThreeBelow", "takes", "(IIII)I"⟩ ⟨"ThirtyThreeBelow", "takes", "(IIII)I"⟩) ∈ lw_all := lw_g (lw_at lw_ms 34 rfl) rfl
theorem qs35 : (Cond.selects "ThirtyThreeBelow" ⟨"ThirtyThreeBelow", "isOfReals", "(I)Z"⟩ ⟨"ThirtyThreeBelow", "isOfReals", "(I)Z"⟩) ∈ lw_all := lw_g (lw_at lw_ms 35 rfl) rfl
theorem qs36 : (Cond.selects "ThirtyThreeBelow" ⟨"ThirtyThreeBelow", "refusal", "(II)I"⟩ ⟨"ThirtyThreeBelow", "refusal", "(II)I"⟩) ∈ lw_all := lw_g (lw_at lw_ms 36 rfl) rfl
theorem qs37 : (Cond.selects "ThirtyThreeBelowModel" ⟨"ThirtyThreeBelowModel", "add", "(I)I"⟩ ⟨"ThirtyThreeBelowModel", "add", "(I)I"⟩) ∈ lw_all := lw_g (lw_at lw_ms 37 rfl) rfl
theorem qs38 : (Cond.selects "ThirtyThreeBelowModel" ⟨"ThirtyThreeBelowModel", "isBody", "(I)Z"⟩ ⟨"ThirtyThreeBelowModel", "isBody", "(I)Z"⟩) ∈ lw_all := lw_g (lw_at lw_ms 38 rfl) rfl
theorem qs39 : (Cond.selects "ThirtyThreeBelowModel" ⟨"ThirtyThreeBelowModel", "isHole", "(I)Z"⟩ ⟨"ThirtyThreeBelowModel", "isHole", "(I)Z"⟩) ∈ lw_all := lw_g (lw_at lw_ms 39 rfl) rfl
theorem qs40 : (Cond.selects "ThirtyThreeBelowModel" ⟨"ThirtyThreeBelowModel", "isMan", "(I)Z"⟩ ⟨"ThirtyThreeBelowModel", "isMan", "(I)Z"⟩) ∈ lw_all := lw_g (lw_at lw_ms 40 rfl) rfl
theorem qs41 : (Cond.selects "ThirtyThreeBelowModel" ⟨"ThirtyThreeBelowModel", "isReals", "(I)Z"⟩ ⟨"ThirtyThreeBelowModel", "isReals", "(I)Z"⟩) ∈ lw_all := lw_g (lw_at lw_ms 41 rfl) rfl
theorem qs42 : (Cond.selects "ThirtyThreeBelowModel" ⟨"ThirtyThreeBelowModel", "canBeAt", "(IIZ)I"⟩ ⟨"ThirtyThreeBelowModel", "canBeAt", "(IIZ)I"⟩) ∈ lw_all := lw_g (lw_at lw_ms 42 rfl) rfl
theorem qs43 : (Cond.selects "ThirtyThreeBelowModel" ⟨"ThirtyThreeBelowModel", "isOldBy", "(II)Z"⟩ ⟨"ThirtyThreeBelowModel", "isOldBy", "(II)Z"⟩) ∈ lw_all := lw_g (lw_at lw_ms 43 rfl) rfl
theorem qs44 : (Cond.selects "ThirtyThreeBelowModel" ⟨"ThirtyThreeBelowModel", "wrongBy", "(I)I"⟩ ⟨"ThirtyThreeBelowModel", "wrongBy", "(I)I"⟩) ∈ lw_all := lw_g (lw_at lw_ms 44 rfl) rfl
theorem qs45 : (Cond.selects "ThirtyThreeBelowModel" ⟨"ThirtyThreeBelowModel", "isUnlike", "(III)Z"⟩ ⟨"ThirtyThreeBelowModel", "isUnlike", "(III)Z"⟩) ∈ lw_all := lw_g (lw_at lw_ms 45 rfl) rfl
theorem qs46 : (Cond.selects "ThirtyThreeBelowModel" ⟨"ThirtyThreeBelowModel", "isShelterBy", "(III)Z"⟩ ⟨"ThirtyThreeBelowModel", "isShelterBy", "(III)Z"⟩) ∈ lw_all := lw_g (lw_at lw_ms 46 rfl) rfl
theorem qs47 : (Cond.selects "ThirtyThreeBelowModel" ⟨"ThirtyThreeBelowModel", "readLine", "()V"⟩ ⟨"ThirtyThreeBelowModel", "readLine", "()V"⟩) ∈ lw_all := lw_g (lw_at lw_ms 47 rfl) rfl
theorem qs48 : (Cond.selects "ThirtyThreeBelowModel" ⟨"ThirtyThreeBelowModel", "either", "()V"⟩ ⟨"ThirtyThreeBelowModel", "either", "()V"⟩) ∈ lw_all := lw_g (lw_at lw_ms 48 rfl) rfl
theorem qs49 : (Cond.selects "ThirtyThreeBelowModel" ⟨"ThirtyThreeBelowModel", "all", "()V"⟩ ⟨"ThirtyThreeBelowModel", "all", "()V"⟩) ∈ lw_all := lw_g (lw_at lw_ms 49 rfl) rfl
theorem qs50 : (Cond.selects "ThirtyThreeBelowModel" ⟨"ThirtyThreeBelowModel", "compared", "()V"⟩ ⟨"ThirtyThreeBelowModel", "compared", "()V"⟩) ∈ lw_all := lw_g (lw_at lw_ms 50 rfl) rfl
theorem qs51 : (Cond.selects "ThirtyThreeBelowModel" ⟨"ThirtyThreeBelowModel", "sum", "()V"⟩ ⟨"ThirtyThreeBelowModel", "sum", "()V"⟩) ∈ lw_all := lw_g (lw_at lw_ms 51 rfl) rfl
theorem qs52 : (Cond.selects "ThirtyThreeBelowModel" ⟨"ThirtyThreeBelowModel", "product", "()V"⟩ ⟨"ThirtyThreeBelowModel", "product", "()V"⟩) ∈ lw_all := lw_g (lw_at lw_ms 52 rfl) rfl
theorem qs53 : (Cond.selects "ThirtyThreeBelowModel" ⟨"ThirtyThreeBelowModel", "operand", "()V"⟩ ⟨"ThirtyThreeBelowModel", "operand", "()V"⟩) ∈ lw_all := lw_g (lw_at lw_ms 53 rfl) rfl
theorem qs54 : (Cond.selects "ThirtyThreeBelowModel" ⟨"ThirtyThreeBelowModel", "look", "()I"⟩ ⟨"ThirtyThreeBelowModel", "look", "()I"⟩) ∈ lw_all := lw_g (lw_at lw_ms 54 rfl) rfl
theorem qs55 : (Cond.selects "ThirtyThreeBelowModel" ⟨"ThirtyThreeBelowModel", "lay", "(II)V"⟩ ⟨"ThirtyThreeBelowModel", "lay", "(II)V"⟩) ∈ lw_all := lw_g (lw_at lw_ms 55 rfl) rfl
theorem qs56 : (Cond.selects "ThirtyThreeBelowModel" ⟨"ThirtyThreeBelowModel", "opens", "()Z"⟩ ⟨"ThirtyThreeBelowModel", "opens", "()Z"⟩) ∈ lw_all := lw_g (lw_at lw_ms 56 rfl) rfl
theorem qs57 : (Cond.selects "ThirtyThreeBelowModel" ⟨"ThirtyThreeBelowModel", "faultHere", "()V"⟩ ⟨"ThirtyThreeBelowModel", "faultHere", "()V"⟩) ∈ lw_all := lw_g (lw_at lw_ms 57 rfl) rfl
theorem qs58 : (Cond.selects "ThirtyThreeBelowModel" ⟨"ThirtyThreeBelowModel", "forceOf", "(III)I"⟩ ⟨"ThirtyThreeBelowModel", "forceOf", "(III)I"⟩) ∈ lw_all := lw_g (lw_at lw_ms 58 rfl) rfl
theorem qs59 : (Cond.selects "ThirtyThreeBelowModel" ⟨"ThirtyThreeBelowModel", "firstThrough", "()I"⟩ ⟨"ThirtyThreeBelowModel", "firstThrough", "()I"⟩) ∈ lw_all := lw_g (lw_at lw_ms 59 rfl) rfl
theorem qs60 : (Cond.selects "ThirtyThreeBelowModel" ⟨"ThirtyThreeBelowModel", "saysNow", "(III)I"⟩ ⟨"ThirtyThreeBelowModel", "saysNow", "(III)I"⟩) ∈ lw_all := lw_g (lw_at lw_ms 60 rfl) rfl
theorem qs61 : (Cond.selects "ThirtyThreeBelowModel" ⟨"ThirtyThreeBelowModel", "menBelow", "()I"⟩ ⟨"ThirtyThreeBelowModel", "menBelow", "()I"⟩) ∈ lw_all := lw_g (lw_at lw_ms 61 rfl) rfl
theorem qs62 : (Cond.selects "ThirtyThreeBelowModel" ⟨"ThirtyThreeBelowModel", "gives", "(I)I"⟩ ⟨"ThirtyThreeBelowModel", "gives", "(I)I"⟩) ∈ lw_all := lw_g (lw_at lw_ms 62 rfl) rfl
theorem qs63 : (Cond.selects "ThirtyThreeBelowModel" ⟨"ThirtyThreeBelowModel", "worked", "(III)I"⟩ ⟨"ThirtyThreeBelowModel", "worked", "(III)I"⟩) ∈ lw_all := lw_g (lw_at lw_ms 63 rfl) rfl
theorem qs64 : (Cond.selects "ThirtyThreeBelowModel" ⟨"ThirtyThreeBelowModel", "drill", "()V"⟩ ⟨"ThirtyThreeBelowModel", "drill", "()V"⟩) ∈ lw_all := lw_g (lw_at lw_ms 64 rfl) rfl
theorem qs65 : (Cond.selects "ThirtyThreeBelowModel" ⟨"ThirtyThreeBelowModel", "bore", "(II)V"⟩ ⟨"ThirtyThreeBelowModel", "bore", "(II)V"⟩) ∈ lw_all := lw_g (lw_at lw_ms 65 rfl) rfl
theorem qs66 : (Cond.selects "ThirtyThreeBelowModel" ⟨"ThirtyThreeBelowModel", "comeDown", "()V"⟩ ⟨"ThirtyThreeBelowModel", "comeDown", "()V"⟩) ∈ lw_all := lw_g (lw_at lw_ms 66 rfl) rfl
theorem qs67 : (Cond.selects "ThirtyThreeBelowModel" ⟨"ThirtyThreeBelowModel", "eat", "()V"⟩ ⟨"ThirtyThreeBelowModel", "eat", "()V"⟩) ∈ lw_all := lw_g (lw_at lw_ms 67 rfl) rfl
theorem qs68 : (Cond.selects "ThirtyThreeBelowModel" ⟨"ThirtyThreeBelowModel", "lastsBy", "(II)I"⟩ ⟨"ThirtyThreeBelowModel", "lastsBy", "(II)I"⟩) ∈ lw_all := lw_g (lw_at lw_ms 68 rfl) rfl
theorem qs69 : (Cond.selects "ThirtyThreeBelowModel" ⟨"ThirtyThreeBelowModel", "costNext", "(II)I"⟩ ⟨"ThirtyThreeBelowModel", "costNext", "(II)I"⟩) ∈ lw_all := lw_g (lw_at lw_ms 69 rfl) rfl
theorem qs70 : (Cond.selects "ThirtyThreeBelowModel" ⟨"ThirtyThreeBelowModel", "minutesAt", "(IIII)I"⟩ ⟨"ThirtyThreeBelowModel", "minutesAt", "(IIII)I"⟩) ∈ lw_all := lw_g (lw_at lw_ms 70 rfl) rfl
theorem qs71 : (Cond.selects "ThirtyThreeBelowModel" ⟨"ThirtyThreeBelowModel", "bores", "(II)I"⟩ ⟨"ThirtyThreeBelowModel", "bores", "(II)I"⟩) ∈ lw_all := lw_g (lw_at lw_ms 71 rfl) rfl
theorem qs72 : (Cond.selects "ThirtyThreeBelowModel" ⟨"ThirtyThreeBelowModel", "ran", "(I)V"⟩ ⟨"ThirtyThreeBelowModel", "ran", "(I)V"⟩) ∈ lw_all := lw_g (lw_at lw_ms 72 rfl) rfl
theorem qs73 : (Cond.selects "ThirtyThreeBelowModel" ⟨"ThirtyThreeBelowModel", "shaftBores", "(II)I"⟩ ⟨"ThirtyThreeBelowModel", "shaftBores", "(II)I"⟩) ∈ lw_all := lw_g (lw_at lw_ms 73 rfl) rfl
theorem qs74 : (Cond.selects "ThirtyThreeBelowModel" ⟨"ThirtyThreeBelowModel", "wayBores", "(II)I"⟩ ⟨"ThirtyThreeBelowModel", "wayBores", "(II)I"⟩) ∈ lw_all := lw_g (lw_at lw_ms 74 rfl) rfl
theorem qs75 : (Cond.selects "ThirtyThreeBelowModel" ⟨"ThirtyThreeBelowModel", "plainBores", "(II)I"⟩ ⟨"ThirtyThreeBelowModel", "plainBores", "(II)I"⟩) ∈ lw_all := lw_g (lw_at lw_ms 75 rfl) rfl
theorem qs76 : (Cond.selects "ThirtyThreeBelowModel" ⟨"ThirtyThreeBelowModel", "carries", "(II)I"⟩ ⟨"ThirtyThreeBelowModel", "carries", "(II)I"⟩) ∈ lw_all := lw_g (lw_at lw_ms 76 rfl) rfl
theorem qs77 : (Cond.selects "ThirtyThreeBelowModel" ⟨"ThirtyThreeBelowModel", "plainCarries", "(II)I"⟩ ⟨"ThirtyThreeBelowModel", "plainCarries", "(II)I"⟩) ∈ lw_all := lw_g (lw_at lw_ms 77 rfl) rfl
theorem qs78 : (Cond.selects "ThirtyThreeBelowModel" ⟨"ThirtyThreeBelowModel", "holdsBy", "(II)I"⟩ ⟨"ThirtyThreeBelowModel", "holdsBy", "(II)I"⟩) ∈ lw_all := lw_g (lw_at lw_ms 78 rfl) rfl
theorem qs79 : (Cond.selects "ThirtyThreeBelowModel" ⟨"ThirtyThreeBelowModel", "plainHolds", "(II)I"⟩ ⟨"ThirtyThreeBelowModel", "plainHolds", "(II)I"⟩) ∈ lw_all := lw_g (lw_at lw_ms 79 rfl) rfl
theorem qs80 : (Cond.selects "ThirtyThreeBelowModel" ⟨"ThirtyThreeBelowModel", "tells", "(II)I"⟩ ⟨"ThirtyThreeBelowModel", "tells", "(II)I"⟩) ∈ lw_all := lw_g (lw_at lw_ms 80 rfl) rfl
theorem qs81 : (Cond.selects "ThirtyThreeBelowModel" ⟨"ThirtyThreeBelowModel", "plainTells", "(II)I"⟩ ⟨"ThirtyThreeBelowModel", "plainTells", "(II)I"⟩) ∈ lw_all := lw_g (lw_at lw_ms 81 rfl) rfl
theorem qs82 : (Cond.selects "ThirtyThreeBelowModel" ⟨"ThirtyThreeBelowModel", "whyNoPlace", "(II)I"⟩ ⟨"ThirtyThreeBelowModel", "whyNoPlace", "(II)I"⟩) ∈ lw_all := lw_g (lw_at lw_ms 82 rfl) rfl
