-- ===== PART A: goes FIRST, ahead of the names: the tables' words, and 'selects' of the private methods out of them =====
/-- a private method of a class that the tables say can be made, by its rows of tables_1 -/
def lw_okq (q : MethodName × Nat) : Prop := (q.1.cls ≠ "java/lang/invoke/MethodHandle" ∧ q.1.cls ≠ "java/lang/invoke/VarHandle") ∧ Cond.instantiable q.1.cls q.2 ∈ tables_1 ∧ Cond.privateMethod q.1 ∈ tables_1 ∧ Cond.instanceMethod q.1 ∈ tables_1
set_option maxRecDepth 100000
theorem lw_t1 {w : Cond} (h : w ∈ tables_1_1) : w ∈ tables_1 := List.mem_append_left _ h
theorem lw_t2 {w : Cond} (h : w ∈ tables_1_2) : w ∈ tables_1 := List.mem_append_right _ (List.mem_append_left _ h)
theorem lw_t3 {w : Cond} (h : w ∈ tables_1_3) : w ∈ tables_1 := List.mem_append_right _ (List.mem_append_right _ (List.mem_append_left _ h))
theorem lw_t4 {w : Cond} (h : w ∈ tables_1_4) : w ∈ tables_1 := List.mem_append_right _ (List.mem_append_right _ (List.mem_append_right _ (List.mem_append_left _ h)))
theorem lw_t5 {w : Cond} (h : w ∈ tables_1_5) : w ∈ tables_1 := List.mem_append_right _ (List.mem_append_right _ (List.mem_append_right _ (List.mem_append_right _ (List.mem_append_left _ h))))
theorem lw_t6 {w : Cond} (h : w ∈ tables_1_6) : w ∈ tables_1 := List.mem_append_right _ (List.mem_append_right _ (List.mem_append_right _ (List.mem_append_right _ (List.mem_append_right _ (List.mem_append_left _ h)))))
theorem lw_t7 {w : Cond} (h : w ∈ tables_1_7) : w ∈ tables_1 := List.mem_append_right _ (List.mem_append_right _ (List.mem_append_right _ (List.mem_append_right _ (List.mem_append_right _ (List.mem_append_right _ (List.mem_append_left _ h))))))
theorem lw_t8 {w : Cond} (h : w ∈ tables_1_8) : w ∈ tables_1 := List.mem_append_right _ (List.mem_append_right _ (List.mem_append_right _ (List.mem_append_right _ (List.mem_append_right _ (List.mem_append_right _ (List.mem_append_right _ (List.mem_append_left _ h)))))))
theorem lw_t9 {w : Cond} (h : w ∈ tables_1_9) : w ∈ tables_1 := List.mem_append_right _ (List.mem_append_right _ (List.mem_append_right _ (List.mem_append_right _ (List.mem_append_right _ (List.mem_append_right _ (List.mem_append_right _ (List.mem_append_right _ h)))))))
theorem lw_p0 : lw_okq (⟨"InASackToTheRope", "shelf", "(I)LInASackToTheRope$Shelf;"⟩, 10) := ⟨⟨by decide +kernel, by decide +kernel⟩, lw_t1 (List.mem_of_getElem? (i := 38) rfl), lw_t2 (List.mem_of_getElem? (i := 32) rfl), lw_t2 (List.mem_of_getElem? (i := 33) rfl)⟩
theorem lw_p1 : lw_okq (⟨"java/lang/Throwable", "fillInStackTrace", "(I)Ljava/lang/Throwable;"⟩, 6) := ⟨⟨by decide +kernel, by decide +kernel⟩, lw_t2 (List.mem_of_getElem? (i := 68) rfl), lw_t2 (List.mem_of_getElem? (i := 66) rfl), lw_t2 (List.mem_of_getElem? (i := 67) rfl)⟩
theorem lw_p2 : lw_okq (⟨"InASackToTheRope", "refused", "(LInASackToTheRope$Refused;)I"⟩, 10) := ⟨⟨by decide +kernel, by decide +kernel⟩, lw_t1 (List.mem_of_getElem? (i := 38) rfl), lw_t2 (List.mem_of_getElem? (i := 206) rfl), lw_t2 (List.mem_of_getElem? (i := 207) rfl)⟩
theorem lw_p3 : lw_okq (⟨"InASackToTheRope", "mustChild", "(I)V"⟩, 10) := ⟨⟨by decide +kernel, by decide +kernel⟩, lw_t1 (List.mem_of_getElem? (i := 38) rfl), lw_t3 (List.mem_of_getElem? (i := 77) rfl), lw_t3 (List.mem_of_getElem? (i := 78) rfl)⟩
theorem lw_p4 : lw_okq (⟨"InASackToTheRope", "beyond", "()I"⟩, 10) := ⟨⟨by decide +kernel, by decide +kernel⟩, lw_t1 (List.mem_of_getElem? (i := 38) rfl), lw_t4 (List.mem_of_getElem? (i := 62) rfl), lw_t4 (List.mem_of_getElem? (i := 63) rfl)⟩
theorem lw_p5 : lw_okq (⟨"InASackToTheRope$Reader", "item", "()V"⟩, 4) := ⟨⟨by decide +kernel, by decide +kernel⟩, lw_t4 (List.mem_of_getElem? (i := 142) rfl), lw_t4 (List.mem_of_getElem? (i := 165) rfl), lw_t4 (List.mem_of_getElem? (i := 166) rfl)⟩
theorem lw_p6 : lw_okq (⟨"InASackToTheRope$Reader", "sees", "(I)Z"⟩, 4) := ⟨⟨by decide +kernel, by decide +kernel⟩, lw_t4 (List.mem_of_getElem? (i := 142) rfl), lw_t4 (List.mem_of_getElem? (i := 169) rfl), lw_t4 (List.mem_of_getElem? (i := 170) rfl)⟩
theorem lw_p7 : lw_okq (⟨"InASackToTheRope$Reader", "ends", "()Z"⟩, 4) := ⟨⟨by decide +kernel, by decide +kernel⟩, lw_t4 (List.mem_of_getElem? (i := 142) rfl), lw_t4 (List.mem_of_getElem? (i := 173) rfl), lw_t4 (List.mem_of_getElem? (i := 174) rfl)⟩
theorem lw_p8 : lw_okq (⟨"InASackToTheRope$Reader", "child", "(I)V"⟩, 4) := ⟨⟨by decide +kernel, by decide +kernel⟩, lw_t4 (List.mem_of_getElem? (i := 142) rfl), lw_t4 (List.mem_of_getElem? (i := 201) rfl), lw_t4 (List.mem_of_getElem? (i := 202) rfl)⟩
theorem lw_p9 : lw_okq (⟨"InASackToTheRope$Reader", "word", "(Ljava/lang/String;)V"⟩, 4) := ⟨⟨by decide +kernel, by decide +kernel⟩, lw_t4 (List.mem_of_getElem? (i := 142) rfl), lw_t4 (List.mem_of_getElem? (i := 206) rfl), lw_t4 (List.mem_of_getElem? (i := 207) rfl)⟩
theorem lw_p10 : lw_okq (⟨"InASackToTheRope$Reader", "must", "(I)V"⟩, 4) := ⟨⟨by decide +kernel, by decide +kernel⟩, lw_t4 (List.mem_of_getElem? (i := 142) rfl), lw_t5 (List.mem_of_getElem? (i := 18) rfl), lw_t5 (List.mem_of_getElem? (i := 19) rfl)⟩
theorem lw_p11 : lw_okq (⟨"InASackToTheRope$Reader", "hasRoom", "(ZI)V"⟩, 4) := ⟨⟨by decide +kernel, by decide +kernel⟩, lw_t4 (List.mem_of_getElem? (i := 142) rfl), lw_t5 (List.mem_of_getElem? (i := 41) rfl), lw_t5 (List.mem_of_getElem? (i := 42) rfl)⟩
theorem lw_p12 : lw_okq (⟨"InASackToTheRope$Reader", "number", "(II)I"⟩, 4) := ⟨⟨by decide +kernel, by decide +kernel⟩, lw_t4 (List.mem_of_getElem? (i := 142) rfl), lw_t5 (List.mem_of_getElem? (i := 45) rfl), lw_t5 (List.mem_of_getElem? (i := 46) rfl)⟩
theorem lw_p13 : lw_okq (⟨"InASackToTheRope$Reader", "digit", "()Z"⟩, 4) := ⟨⟨by decide +kernel, by decide +kernel⟩, lw_t4 (List.mem_of_getElem? (i := 142) rfl), lw_t5 (List.mem_of_getElem? (i := 49) rfl), lw_t5 (List.mem_of_getElem? (i := 50) rfl)⟩
theorem lw_p14 : lw_okq (⟨"InASackToTheRope$Reader", "sack", "(I)V"⟩, 4) := ⟨⟨by decide +kernel, by decide +kernel⟩, lw_t4 (List.mem_of_getElem? (i := 142) rfl), lw_t5 (List.mem_of_getElem? (i := 54) rfl), lw_t5 (List.mem_of_getElem? (i := 55) rfl)⟩
theorem lw_p15 : lw_okq (⟨"InASackToTheRope$Reader", "wearsOrWayOrWind", "()V"⟩, 4) := ⟨⟨by decide +kernel, by decide +kernel⟩, lw_t4 (List.mem_of_getElem? (i := 142) rfl), lw_t5 (List.mem_of_getElem? (i := 60) rfl), lw_t5 (List.mem_of_getElem? (i := 61) rfl)⟩
def lw_privs_1 : List (MethodName × Nat) := [(⟨"InASackToTheRope", "shelf", "(I)LInASackToTheRope$Shelf;"⟩, 10), (⟨"java/lang/Throwable", "fillInStackTrace", "(I)Ljava/lang/Throwable;"⟩, 6), (⟨"InASackToTheRope", "refused", "(LInASackToTheRope$Refused;)I"⟩, 10), (⟨"InASackToTheRope", "mustChild", "(I)V"⟩, 10), (⟨"InASackToTheRope", "beyond", "()I"⟩, 10), (⟨"InASackToTheRope$Reader", "item", "()V"⟩, 4), (⟨"InASackToTheRope$Reader", "sees", "(I)Z"⟩, 4), (⟨"InASackToTheRope$Reader", "ends", "()Z"⟩, 4), (⟨"InASackToTheRope$Reader", "child", "(I)V"⟩, 4), (⟨"InASackToTheRope$Reader", "word", "(Ljava/lang/String;)V"⟩, 4), (⟨"InASackToTheRope$Reader", "must", "(I)V"⟩, 4), (⟨"InASackToTheRope$Reader", "hasRoom", "(ZI)V"⟩, 4), (⟨"InASackToTheRope$Reader", "number", "(II)I"⟩, 4), (⟨"InASackToTheRope$Reader", "digit", "()Z"⟩, 4), (⟨"InASackToTheRope$Reader", "sack", "(I)V"⟩, 4), (⟨"InASackToTheRope$Reader", "wearsOrWayOrWind", "()V"⟩, 4)]
theorem lw_r1 : ∀ q ∈ lw_privs_1, lw_okq q := List.forall_mem_cons.mpr ⟨lw_p0, List.forall_mem_cons.mpr ⟨lw_p1, List.forall_mem_cons.mpr ⟨lw_p2, List.forall_mem_cons.mpr ⟨lw_p3, List.forall_mem_cons.mpr ⟨lw_p4, List.forall_mem_cons.mpr ⟨lw_p5, List.forall_mem_cons.mpr ⟨lw_p6, List.forall_mem_cons.mpr ⟨lw_p7, List.forall_mem_cons.mpr ⟨lw_p8, List.forall_mem_cons.mpr ⟨lw_p9, List.forall_mem_cons.mpr ⟨lw_p10, List.forall_mem_cons.mpr ⟨lw_p11, List.forall_mem_cons.mpr ⟨lw_p12, List.forall_mem_cons.mpr ⟨lw_p13, List.forall_mem_cons.mpr ⟨lw_p14, List.forall_mem_cons.mpr ⟨lw_p15, fun _ h => absurd h List.not_mem_nil⟩⟩⟩⟩⟩⟩⟩⟩⟩⟩⟩⟩⟩⟩⟩⟩
theorem lw_p16 : lw_okq (⟨"InASackToTheRope$Reader", "one", "()I"⟩, 4) := ⟨⟨by decide +kernel, by decide +kernel⟩, lw_t4 (List.mem_of_getElem? (i := 142) rfl), lw_t5 (List.mem_of_getElem? (i := 65) rfl), lw_t5 (List.mem_of_getElem? (i := 66) rfl)⟩
theorem lw_p17 : lw_okq (⟨"InASackToTheRope$Runner", "begins", "(LInASackToTheRope$Field;LInASackToTheRope$Hopper;IIII)LInASackToTheRope$Runner;"⟩, 12) := ⟨⟨by decide +kernel, by decide +kernel⟩, lw_t1 (List.mem_of_getElem? (i := 64) rfl), lw_t5 (List.mem_of_getElem? (i := 94) rfl), lw_t5 (List.mem_of_getElem? (i := 95) rfl)⟩
theorem lw_p18 : lw_okq (⟨"InASackToTheRope$Runner", "lies", "()V"⟩, 12) := ⟨⟨by decide +kernel, by decide +kernel⟩, lw_t1 (List.mem_of_getElem? (i := 64) rfl), lw_t5 (List.mem_of_getElem? (i := 114) rfl), lw_t5 (List.mem_of_getElem? (i := 115) rfl)⟩
theorem lw_p19 : lw_okq (⟨"InASackToTheRope$Runner", "mends", "(I)V"⟩, 12) := ⟨⟨by decide +kernel, by decide +kernel⟩, lw_t1 (List.mem_of_getElem? (i := 64) rfl), lw_t5 (List.mem_of_getElem? (i := 118) rfl), lw_t5 (List.mem_of_getElem? (i := 119) rfl)⟩
theorem lw_p20 : lw_okq (⟨"InASackToTheRope$Runner", "riskNow", "()I"⟩, 12) := ⟨⟨by decide +kernel, by decide +kernel⟩, lw_t1 (List.mem_of_getElem? (i := 64) rfl), lw_t5 (List.mem_of_getElem? (i := 125) rfl), lw_t5 (List.mem_of_getElem? (i := 126) rfl)⟩
theorem lw_p21 : lw_okq (⟨"InASackToTheRope$Runner", "puffs", "()V"⟩, 12) := ⟨⟨by decide +kernel, by decide +kernel⟩, lw_t1 (List.mem_of_getElem? (i := 64) rfl), lw_t5 (List.mem_of_getElem? (i := 129) rfl), lw_t5 (List.mem_of_getElem? (i := 130) rfl)⟩
theorem lw_p22 : lw_okq (⟨"InASackToTheRope$Runner", "goes", "(Z)V"⟩, 12) := ⟨⟨by decide +kernel, by decide +kernel⟩, lw_t1 (List.mem_of_getElem? (i := 64) rfl), lw_t5 (List.mem_of_getElem? (i := 133) rfl), lw_t5 (List.mem_of_getElem? (i := 134) rfl)⟩
theorem lw_p23 : lw_okq (⟨"InASackToTheRope", "timeOf", "(I)I"⟩, 10) := ⟨⟨by decide +kernel, by decide +kernel⟩, lw_t1 (List.mem_of_getElem? (i := 38) rfl), lw_t5 (List.mem_of_getElem? (i := 141) rfl), lw_t5 (List.mem_of_getElem? (i := 142) rfl)⟩
theorem lw_p24 : lw_okq (⟨"InASackToTheRope", "someChildren", "()V"⟩, 10) := ⟨⟨by decide +kernel, by decide +kernel⟩, lw_t1 (List.mem_of_getElem? (i := 38) rfl), lw_t5 (List.mem_of_getElem? (i := 158) rfl), lw_t5 (List.mem_of_getElem? (i := 159) rfl)⟩
theorem lw_p25 : lw_okq (⟨"InASackToTheRope", "all", "()I"⟩, 10) := ⟨⟨by decide +kernel, by decide +kernel⟩, lw_t1 (List.mem_of_getElem? (i := 38) rfl), lw_t5 (List.mem_of_getElem? (i := 162) rfl), lw_t5 (List.mem_of_getElem? (i := 163) rfl)⟩
theorem lw_p26 : lw_okq (⟨"InASackToTheRope", "winnerOf", "(I)I"⟩, 10) := ⟨⟨by decide +kernel, by decide +kernel⟩, lw_t1 (List.mem_of_getElem? (i := 38) rfl), lw_t5 (List.mem_of_getElem? (i := 166) rfl), lw_t5 (List.mem_of_getElem? (i := 167) rfl)⟩
theorem lw_p27 : lw_okq (⟨"InASackToTheRope", "bestKind", "(I)I"⟩, 10) := ⟨⟨by decide +kernel, by decide +kernel⟩, lw_t1 (List.mem_of_getElem? (i := 38) rfl), lw_t5 (List.mem_of_getElem? (i := 174) rfl), lw_t5 (List.mem_of_getElem? (i := 175) rfl)⟩
theorem lw_p28 : lw_okq (⟨"InASackToTheRope", "timeAs", "(II)I"⟩, 10) := ⟨⟨by decide +kernel, by decide +kernel⟩, lw_t1 (List.mem_of_getElem? (i := 38) rfl), lw_t5 (List.mem_of_getElem? (i := 178) rfl), lw_t5 (List.mem_of_getElem? (i := 179) rfl)⟩
theorem lw_p29 : lw_okq (⟨"InASackToTheRope", "bestSack", "(I)I"⟩, 10) := ⟨⟨by decide +kernel, by decide +kernel⟩, lw_t1 (List.mem_of_getElem? (i := 38) rfl), lw_t5 (List.mem_of_getElem? (i := 184) rfl), lw_t5 (List.mem_of_getElem? (i := 185) rfl)⟩
theorem lw_p30 : lw_okq (⟨"InASackToTheRope", "timeIn", "(II)I"⟩, 10) := ⟨⟨by decide +kernel, by decide +kernel⟩, lw_t1 (List.mem_of_getElem? (i := 38) rfl), lw_t5 (List.mem_of_getElem? (i := 188) rfl), lw_t5 (List.mem_of_getElem? (i := 189) rfl)⟩
theorem lw_p31 : lw_okq (⟨"InASackToTheRope", "timeRolling", "(IZ)I"⟩, 10) := ⟨⟨by decide +kernel, by decide +kernel⟩, lw_t1 (List.mem_of_getElem? (i := 38) rfl), lw_t5 (List.mem_of_getElem? (i := 192) rfl), lw_t5 (List.mem_of_getElem? (i := 193) rfl)⟩
def lw_privs_2 : List (MethodName × Nat) := [(⟨"InASackToTheRope$Reader", "one", "()I"⟩, 4), (⟨"InASackToTheRope$Runner", "begins", "(LInASackToTheRope$Field;LInASackToTheRope$Hopper;IIII)LInASackToTheRope$Runner;"⟩, 12), (⟨"InASackToTheRope$Runner", "lies", "()V"⟩, 12), (⟨"InASackToTheRope$Runner", "mends", "(I)V"⟩, 12), (⟨"InASackToTheRope$Runner", "riskNow", "()I"⟩, 12), (⟨"InASackToTheRope$Runner", "puffs", "()V"⟩, 12), (⟨"InASackToTheRope$Runner", "goes", "(Z)V"⟩, 12), (⟨"InASackToTheRope", "timeOf", "(I)I"⟩, 10), (⟨"InASackToTheRope", "someChildren", "()V"⟩, 10), (⟨"InASackToTheRope", "all", "()I"⟩, 10), (⟨"InASackToTheRope", "winnerOf", "(I)I"⟩, 10), (⟨"InASackToTheRope", "bestKind", "(I)I"⟩, 10), (⟨"InASackToTheRope", "timeAs", "(II)I"⟩, 10), (⟨"InASackToTheRope", "bestSack", "(I)I"⟩, 10), (⟨"InASackToTheRope", "timeIn", "(II)I"⟩, 10), (⟨"InASackToTheRope", "timeRolling", "(IZ)I"⟩, 10)]
theorem lw_r2 : ∀ q ∈ lw_privs_2, lw_okq q := List.forall_mem_cons.mpr ⟨lw_p16, List.forall_mem_cons.mpr ⟨lw_p17, List.forall_mem_cons.mpr ⟨lw_p18, List.forall_mem_cons.mpr ⟨lw_p19, List.forall_mem_cons.mpr ⟨lw_p20, List.forall_mem_cons.mpr ⟨lw_p21, List.forall_mem_cons.mpr ⟨lw_p22, List.forall_mem_cons.mpr ⟨lw_p23, List.forall_mem_cons.mpr ⟨lw_p24, List.forall_mem_cons.mpr ⟨lw_p25, List.forall_mem_cons.mpr ⟨lw_p26, List.forall_mem_cons.mpr ⟨lw_p27, List.forall_mem_cons.mpr ⟨lw_p28, List.forall_mem_cons.mpr ⟨lw_p29, List.forall_mem_cons.mpr ⟨lw_p30, List.forall_mem_cons.mpr ⟨lw_p31, fun _ h => absurd h List.not_mem_nil⟩⟩⟩⟩⟩⟩⟩⟩⟩⟩⟩⟩⟩⟩⟩⟩
theorem lw_p32 : lw_okq (⟨"InASackToTheRope$Given", "seek", "(II)V"⟩, 8) := ⟨⟨by decide +kernel, by decide +kernel⟩, lw_t1 (List.mem_of_getElem? (i := 114) rfl), lw_t5 (List.mem_of_getElem? (i := 209) rfl), lw_t5 (List.mem_of_getElem? (i := 210) rfl)⟩
theorem lw_p33 : lw_okq (⟨"InASackToTheRope$Given", "worth", "()I"⟩, 8) := ⟨⟨by decide +kernel, by decide +kernel⟩, lw_t1 (List.mem_of_getElem? (i := 114) rfl), lw_t5 (List.mem_of_getElem? (i := 213) rfl), lw_t5 (List.mem_of_getElem? (i := 214) rfl)⟩
theorem lw_p34 : lw_okq (⟨"InASackToTheRope", "startOf", "(II)I"⟩, 10) := ⟨⟨by decide +kernel, by decide +kernel⟩, lw_t1 (List.mem_of_getElem? (i := 38) rfl), lw_t5 (List.mem_of_getElem? (i := 237) rfl), lw_t5 (List.mem_of_getElem? (i := 238) rfl)⟩
theorem lw_p35 : lw_okq (⟨"InASackToTheRope", "heatsOf", "(II[I)I"⟩, 10) := ⟨⟨by decide +kernel, by decide +kernel⟩, lw_t1 (List.mem_of_getElem? (i := 38) rfl), lw_t6 (List.mem_of_getElem? (i := 15) rfl), lw_t6 (List.mem_of_getElem? (i := 16) rfl)⟩
theorem lw_p36 : lw_okq (⟨"InASackToTheRope", "wrongIn", "(LInASackToTheRope$Row;I)I"⟩, 10) := ⟨⟨by decide +kernel, by decide +kernel⟩, lw_t1 (List.mem_of_getElem? (i := 38) rfl), lw_t6 (List.mem_of_getElem? (i := 36) rfl), lw_t6 (List.mem_of_getElem? (i := 37) rfl)⟩
theorem lw_p37 : lw_okq (⟨"InASackToTheRope", "goesRace", "()I"⟩, 10) := ⟨⟨by decide +kernel, by decide +kernel⟩, lw_t1 (List.mem_of_getElem? (i := 38) rfl), lw_t6 (List.mem_of_getElem? (i := 53) rfl), lw_t6 (List.mem_of_getElem? (i := 54) rfl)⟩
theorem lw_p38 : lw_okq (⟨"InASackToTheRope", "shelvesFollow", "()V"⟩, 10) := ⟨⟨by decide +kernel, by decide +kernel⟩, lw_t1 (List.mem_of_getElem? (i := 38) rfl), lw_t6 (List.mem_of_getElem? (i := 168) rfl), lw_t6 (List.mem_of_getElem? (i := 169) rfl)⟩
theorem lw_p39 : lw_okq (⟨"InASackToTheRopeModel", "isShelf", "(I)Z"⟩, 59) := ⟨⟨by decide +kernel, by decide +kernel⟩, lw_t6 (List.mem_of_getElem? (i := 178) rfl), lw_t7 (List.mem_of_getElem? (i := 126) rfl), lw_t7 (List.mem_of_getElem? (i := 127) rfl)⟩
theorem lw_p40 : lw_okq (⟨"InASackToTheRopeModel", "no", "(I)I"⟩, 59) := ⟨⟨by decide +kernel, by decide +kernel⟩, lw_t6 (List.mem_of_getElem? (i := 178) rfl), lw_t7 (List.mem_of_getElem? (i := 130) rfl), lw_t7 (List.mem_of_getElem? (i := 131) rfl)⟩
theorem lw_p41 : lw_okq (⟨"InASackToTheRopeModel", "isChild", "(I)Z"⟩, 59) := ⟨⟨by decide +kernel, by decide +kernel⟩, lw_t6 (List.mem_of_getElem? (i := 178) rfl), lw_t7 (List.mem_of_getElem? (i := 150) rfl), lw_t7 (List.mem_of_getElem? (i := 151) rfl)⟩
theorem lw_p42 : lw_okq (⟨"InASackToTheRopeModel", "puts", "(I)V"⟩, 59) := ⟨⟨by decide +kernel, by decide +kernel⟩, lw_t6 (List.mem_of_getElem? (i := 178) rfl), lw_t7 (List.mem_of_getElem? (i := 162) rfl), lw_t7 (List.mem_of_getElem? (i := 163) rfl)⟩
theorem lw_p43 : lw_okq (⟨"InASackToTheRopeModel", "putsIn", "(I)V"⟩, 59) := ⟨⟨by decide +kernel, by decide +kernel⟩, lw_t6 (List.mem_of_getElem? (i := 178) rfl), lw_t7 (List.mem_of_getElem? (i := 166) rfl), lw_t7 (List.mem_of_getElem? (i := 167) rfl)⟩
theorem lw_p44 : lw_okq (⟨"InASackToTheRopeModel", "abs", "(I)I"⟩, 59) := ⟨⟨by decide +kernel, by decide +kernel⟩, lw_t6 (List.mem_of_getElem? (i := 178) rfl), lw_t7 (List.mem_of_getElem? (i := 170) rfl), lw_t7 (List.mem_of_getElem? (i := 171) rfl)⟩
theorem lw_p45 : lw_okq (⟨"InASackToTheRopeModel", "puff", "()I"⟩, 59) := ⟨⟨by decide +kernel, by decide +kernel⟩, lw_t6 (List.mem_of_getElem? (i := 178) rfl), lw_t7 (List.mem_of_getElem? (i := 174) rfl), lw_t7 (List.mem_of_getElem? (i := 175) rfl)⟩
theorem lw_p46 : lw_okq (⟨"InASackToTheRopeModel", "stride", "()I"⟩, 59) := ⟨⟨by decide +kernel, by decide +kernel⟩, lw_t6 (List.mem_of_getElem? (i := 178) rfl), lw_t7 (List.mem_of_getElem? (i := 178) rfl), lw_t7 (List.mem_of_getElem? (i := 179) rfl)⟩
theorem lw_p47 : lw_okq (⟨"InASackToTheRopeModel", "one", "(I)I"⟩, 59) := ⟨⟨by decide +kernel, by decide +kernel⟩, lw_t6 (List.mem_of_getElem? (i := 178) rfl), lw_t7 (List.mem_of_getElem? (i := 182) rfl), lw_t7 (List.mem_of_getElem? (i := 183) rfl)⟩
def lw_privs_3 : List (MethodName × Nat) := [(⟨"InASackToTheRope$Given", "seek", "(II)V"⟩, 8), (⟨"InASackToTheRope$Given", "worth", "()I"⟩, 8), (⟨"InASackToTheRope", "startOf", "(II)I"⟩, 10), (⟨"InASackToTheRope", "heatsOf", "(II[I)I"⟩, 10), (⟨"InASackToTheRope", "wrongIn", "(LInASackToTheRope$Row;I)I"⟩, 10), (⟨"InASackToTheRope", "goesRace", "()I"⟩, 10), (⟨"InASackToTheRope", "shelvesFollow", "()V"⟩, 10), (⟨"InASackToTheRopeModel", "isShelf", "(I)Z"⟩, 59), (⟨"InASackToTheRopeModel", "no", "(I)I"⟩, 59), (⟨"InASackToTheRopeModel", "isChild", "(I)Z"⟩, 59), (⟨"InASackToTheRopeModel", "puts", "(I)V"⟩, 59), (⟨"InASackToTheRopeModel", "putsIn", "(I)V"⟩, 59), (⟨"InASackToTheRopeModel", "abs", "(I)I"⟩, 59), (⟨"InASackToTheRopeModel", "puff", "()I"⟩, 59), (⟨"InASackToTheRopeModel", "stride", "()I"⟩, 59), (⟨"InASackToTheRopeModel", "one", "(I)I"⟩, 59)]
theorem lw_r3 : ∀ q ∈ lw_privs_3, lw_okq q := List.forall_mem_cons.mpr ⟨lw_p32, List.forall_mem_cons.mpr ⟨lw_p33, List.forall_mem_cons.mpr ⟨lw_p34, List.forall_mem_cons.mpr ⟨lw_p35, List.forall_mem_cons.mpr ⟨lw_p36, List.forall_mem_cons.mpr ⟨lw_p37, List.forall_mem_cons.mpr ⟨lw_p38, List.forall_mem_cons.mpr ⟨lw_p39, List.forall_mem_cons.mpr ⟨lw_p40, List.forall_mem_cons.mpr ⟨lw_p41, List.forall_mem_cons.mpr ⟨lw_p42, List.forall_mem_cons.mpr ⟨lw_p43, List.forall_mem_cons.mpr ⟨lw_p44, List.forall_mem_cons.mpr ⟨lw_p45, List.forall_mem_cons.mpr ⟨lw_p46, List.forall_mem_cons.mpr ⟨lw_p47, fun _ h => absurd h List.not_mem_nil⟩⟩⟩⟩⟩⟩⟩⟩⟩⟩⟩⟩⟩⟩⟩⟩
theorem lw_p48 : lw_okq (⟨"InASackToTheRopeModel", "risk", "()I"⟩, 59) := ⟨⟨by decide +kernel, by decide +kernel⟩, lw_t6 (List.mem_of_getElem? (i := 178) rfl), lw_t7 (List.mem_of_getElem? (i := 186) rfl), lw_t7 (List.mem_of_getElem? (i := 187) rfl)⟩
theorem lw_p49 : lw_okq (⟨"InASackToTheRopeModel", "addsChild", "(III)I"⟩, 59) := ⟨⟨by decide +kernel, by decide +kernel⟩, lw_t6 (List.mem_of_getElem? (i := 178) rfl), lw_t7 (List.mem_of_getElem? (i := 194) rfl), lw_t7 (List.mem_of_getElem? (i := 195) rfl)⟩
theorem lw_p50 : lw_okq (⟨"InASackToTheRopeModel", "addsSack", "(II)I"⟩, 59) := ⟨⟨by decide +kernel, by decide +kernel⟩, lw_t6 (List.mem_of_getElem? (i := 178) rfl), lw_t7 (List.mem_of_getElem? (i := 202) rfl), lw_t7 (List.mem_of_getElem? (i := 203) rfl)⟩
theorem lw_p51 : lw_okq (⟨"InASackToTheRopeModel", "isSack", "(I)Z"⟩, 59) := ⟨⟨by decide +kernel, by decide +kernel⟩, lw_t6 (List.mem_of_getElem? (i := 178) rfl), lw_t7 (List.mem_of_getElem? (i := 214) rfl), lw_t7 (List.mem_of_getElem? (i := 215) rfl)⟩
theorem lw_p52 : lw_okq (⟨"InASackToTheRopeModel", "isAsked", "(II)Z"⟩, 59) := ⟨⟨by decide +kernel, by decide +kernel⟩, lw_t6 (List.mem_of_getElem? (i := 178) rfl), lw_t7 (List.mem_of_getElem? (i := 230) rfl), lw_t7 (List.mem_of_getElem? (i := 231) rfl)⟩
theorem lw_p53 : lw_okq (⟨"InASackToTheRopeModel", "told", "(I)I"⟩, 59) := ⟨⟨by decide +kernel, by decide +kernel⟩, lw_t6 (List.mem_of_getElem? (i := 178) rfl), lw_t7 (List.mem_of_getElem? (i := 234) rfl), lw_t7 (List.mem_of_getElem? (i := 235) rfl)⟩
theorem lw_p54 : lw_okq (⟨"InASackToTheRopeModel", "tells", "(II)V"⟩, 59) := ⟨⟨by decide +kernel, by decide +kernel⟩, lw_t6 (List.mem_of_getElem? (i := 178) rfl), lw_t7 (List.mem_of_getElem? (i := 238) rfl), lw_t7 (List.mem_of_getElem? (i := 239) rfl)⟩
theorem lw_p55 : lw_okq (⟨"InASackToTheRopeModel", "wanted", "(I)I"⟩, 59) := ⟨⟨by decide +kernel, by decide +kernel⟩, lw_t6 (List.mem_of_getElem? (i := 178) rfl), lw_t8 (List.mem_of_getElem? (i := 10) rfl), lw_t8 (List.mem_of_getElem? (i := 11) rfl)⟩
theorem lw_p56 : lw_okq (⟨"InASackToTheRopeModel", "all", "([IZ)V"⟩, 59) := ⟨⟨by decide +kernel, by decide +kernel⟩, lw_t6 (List.mem_of_getElem? (i := 178) rfl), lw_t8 (List.mem_of_getElem? (i := 14) rfl), lw_t8 (List.mem_of_getElem? (i := 15) rfl)⟩
theorem lw_p57 : lw_okq (⟨"InASackToTheRopeModel", "carries", "([I[IIZ)I"⟩, 59) := ⟨⟨by decide +kernel, by decide +kernel⟩, lw_t6 (List.mem_of_getElem? (i := 178) rfl), lw_t8 (List.mem_of_getElem? (i := 18) rfl), lw_t8 (List.mem_of_getElem? (i := 19) rfl)⟩
theorem lw_p58 : lw_okq (⟨"InASackToTheRopeModel", "item", "()Z"⟩, 59) := ⟨⟨by decide +kernel, by decide +kernel⟩, lw_t6 (List.mem_of_getElem? (i := 178) rfl), lw_t8 (List.mem_of_getElem? (i := 22) rfl), lw_t8 (List.mem_of_getElem? (i := 23) rfl)⟩
theorem lw_p59 : lw_okq (⟨"InASackToTheRopeModel", "stands", "(I)Z"⟩, 59) := ⟨⟨by decide +kernel, by decide +kernel⟩, lw_t6 (List.mem_of_getElem? (i := 178) rfl), lw_t8 (List.mem_of_getElem? (i := 26) rfl), lw_t8 (List.mem_of_getElem? (i := 27) rfl)⟩
theorem lw_p60 : lw_okq (⟨"InASackToTheRopeModel", "wrong", "(I)Z"⟩, 59) := ⟨⟨by decide +kernel, by decide +kernel⟩, lw_t6 (List.mem_of_getElem? (i := 178) rfl), lw_t8 (List.mem_of_getElem? (i := 30) rfl), lw_t8 (List.mem_of_getElem? (i := 31) rfl)⟩
theorem lw_p61 : lw_okq (⟨"InASackToTheRopeModel", "word", "()I"⟩, 59) := ⟨⟨by decide +kernel, by decide +kernel⟩, lw_t6 (List.mem_of_getElem? (i := 178) rfl), lw_t8 (List.mem_of_getElem? (i := 34) rfl), lw_t8 (List.mem_of_getElem? (i := 35) rfl)⟩
theorem lw_p62 : lw_okq (⟨"InASackToTheRopeModel", "reads", "()Z"⟩, 59) := ⟨⟨by decide +kernel, by decide +kernel⟩, lw_t6 (List.mem_of_getElem? (i := 178) rfl), lw_t8 (List.mem_of_getElem? (i := 38) rfl), lw_t8 (List.mem_of_getElem? (i := 39) rfl)⟩
theorem lw_p63 : lw_okq (⟨"InASackToTheRopeModel", "isDigit", "()Z"⟩, 59) := ⟨⟨by decide +kernel, by decide +kernel⟩, lw_t6 (List.mem_of_getElem? (i := 178) rfl), lw_t8 (List.mem_of_getElem? (i := 42) rfl), lw_t8 (List.mem_of_getElem? (i := 43) rfl)⟩
def lw_privs_4 : List (MethodName × Nat) := [(⟨"InASackToTheRopeModel", "risk", "()I"⟩, 59), (⟨"InASackToTheRopeModel", "addsChild", "(III)I"⟩, 59), (⟨"InASackToTheRopeModel", "addsSack", "(II)I"⟩, 59), (⟨"InASackToTheRopeModel", "isSack", "(I)Z"⟩, 59), (⟨"InASackToTheRopeModel", "isAsked", "(II)Z"⟩, 59), (⟨"InASackToTheRopeModel", "told", "(I)I"⟩, 59), (⟨"InASackToTheRopeModel", "tells", "(II)V"⟩, 59), (⟨"InASackToTheRopeModel", "wanted", "(I)I"⟩, 59), (⟨"InASackToTheRopeModel", "all", "([IZ)V"⟩, 59), (⟨"InASackToTheRopeModel", "carries", "([I[IIZ)I"⟩, 59), (⟨"InASackToTheRopeModel", "item", "()Z"⟩, 59), (⟨"InASackToTheRopeModel", "stands", "(I)Z"⟩, 59), (⟨"InASackToTheRopeModel", "wrong", "(I)Z"⟩, 59), (⟨"InASackToTheRopeModel", "word", "()I"⟩, 59), (⟨"InASackToTheRopeModel", "reads", "()Z"⟩, 59), (⟨"InASackToTheRopeModel", "isDigit", "()Z"⟩, 59)]
theorem lw_r4 : ∀ q ∈ lw_privs_4, lw_okq q := List.forall_mem_cons.mpr ⟨lw_p48, List.forall_mem_cons.mpr ⟨lw_p49, List.forall_mem_cons.mpr ⟨lw_p50, List.forall_mem_cons.mpr ⟨lw_p51, List.forall_mem_cons.mpr ⟨lw_p52, List.forall_mem_cons.mpr ⟨lw_p53, List.forall_mem_cons.mpr ⟨lw_p54, List.forall_mem_cons.mpr ⟨lw_p55, List.forall_mem_cons.mpr ⟨lw_p56, List.forall_mem_cons.mpr ⟨lw_p57, List.forall_mem_cons.mpr ⟨lw_p58, List.forall_mem_cons.mpr ⟨lw_p59, List.forall_mem_cons.mpr ⟨lw_p60, List.forall_mem_cons.mpr ⟨lw_p61, List.forall_mem_cons.mpr ⟨lw_p62, List.forall_mem_cons.mpr ⟨lw_p63, fun _ h => absurd h List.not_mem_nil⟩⟩⟩⟩⟩⟩⟩⟩⟩⟩⟩⟩⟩⟩⟩⟩
theorem lw_p64 : lw_okq (⟨"InASackToTheRopeModel", "isSo", "(II)Z"⟩, 59) := ⟨⟨by decide +kernel, by decide +kernel⟩, lw_t6 (List.mem_of_getElem? (i := 178) rfl), lw_t8 (List.mem_of_getElem? (i := 46) rfl), lw_t8 (List.mem_of_getElem? (i := 47) rfl)⟩
theorem lw_p65 : lw_okq (⟨"InASackToTheRopeModel", "starts", "()V"⟩, 59) := ⟨⟨by decide +kernel, by decide +kernel⟩, lw_t6 (List.mem_of_getElem? (i := 178) rfl), lw_t8 (List.mem_of_getElem? (i := 58) rfl), lw_t8 (List.mem_of_getElem? (i := 59) rfl)⟩
theorem lw_p66 : lw_okq (⟨"InASackToTheRopeModel", "second", "()V"⟩, 59) := ⟨⟨by decide +kernel, by decide +kernel⟩, lw_t6 (List.mem_of_getElem? (i := 178) rfl), lw_t8 (List.mem_of_getElem? (i := 62) rfl), lw_t8 (List.mem_of_getElem? (i := 63) rfl)⟩
theorem lw_p67 : lw_okq (⟨"InASackToTheRopeModel", "rests", "()V"⟩, 59) := ⟨⟨by decide +kernel, by decide +kernel⟩, lw_t6 (List.mem_of_getElem? (i := 178) rfl), lw_t8 (List.mem_of_getElem? (i := 66) rfl), lw_t8 (List.mem_of_getElem? (i := 67) rfl)⟩
theorem lw_p68 : lw_okq (⟨"InASackToTheRopeModel", "riskNow", "()I"⟩, 59) := ⟨⟨by decide +kernel, by decide +kernel⟩, lw_t6 (List.mem_of_getElem? (i := 178) rfl), lw_t8 (List.mem_of_getElem? (i := 70) rfl), lw_t8 (List.mem_of_getElem? (i := 71) rfl)⟩
theorem lw_p69 : lw_okq (⟨"InASackToTheRopeModel", "puffs", "()V"⟩, 59) := ⟨⟨by decide +kernel, by decide +kernel⟩, lw_t6 (List.mem_of_getElem? (i := 178) rfl), lw_t8 (List.mem_of_getElem? (i := 74) rfl), lw_t8 (List.mem_of_getElem? (i := 75) rfl)⟩
theorem lw_p70 : lw_okq (⟨"InASackToTheRopeModel", "falls", "()V"⟩, 59) := ⟨⟨by decide +kernel, by decide +kernel⟩, lw_t6 (List.mem_of_getElem? (i := 178) rfl), lw_t8 (List.mem_of_getElem? (i := 78) rfl), lw_t8 (List.mem_of_getElem? (i := 79) rfl)⟩
theorem lw_p71 : lw_okq (⟨"InASackToTheRopeModel", "inOf", "(I)I"⟩, 59) := ⟨⟨by decide +kernel, by decide +kernel⟩, lw_t6 (List.mem_of_getElem? (i := 178) rfl), lw_t8 (List.mem_of_getElem? (i := 86) rfl), lw_t8 (List.mem_of_getElem? (i := 87) rfl)⟩
theorem lw_p72 : lw_okq (⟨"InASackToTheRopeModel", "in", "()I"⟩, 59) := ⟨⟨by decide +kernel, by decide +kernel⟩, lw_t6 (List.mem_of_getElem? (i := 178) rfl), lw_t8 (List.mem_of_getElem? (i := 90) rfl), lw_t8 (List.mem_of_getElem? (i := 91) rfl)⟩
theorem lw_p73 : lw_okq (⟨"InASackToTheRopeModel", "withRope", "(I)I"⟩, 59) := ⟨⟨by decide +kernel, by decide +kernel⟩, lw_t6 (List.mem_of_getElem? (i := 178) rfl), lw_t8 (List.mem_of_getElem? (i := 94) rfl), lw_t8 (List.mem_of_getElem? (i := 95) rfl)⟩
theorem lw_p74 : lw_okq (⟨"InASackToTheRopeModel", "firstIn", "()I"⟩, 59) := ⟨⟨by decide +kernel, by decide +kernel⟩, lw_t6 (List.mem_of_getElem? (i := 178) rfl), lw_t8 (List.mem_of_getElem? (i := 102) rfl), lw_t8 (List.mem_of_getElem? (i := 103) rfl)⟩
theorem lw_p75 : lw_okq (⟨"InASackToTheRopeModel", "how", "(I)I"⟩, 59) := ⟨⟨by decide +kernel, by decide +kernel⟩, lw_t6 (List.mem_of_getElem? (i := 178) rfl), lw_t8 (List.mem_of_getElem? (i := 110) rfl), lw_t8 (List.mem_of_getElem? (i := 111) rfl)⟩
theorem lw_p76 : lw_okq (⟨"InASackToTheRopeModel", "inAs", "(II)I"⟩, 59) := ⟨⟨by decide +kernel, by decide +kernel⟩, lw_t6 (List.mem_of_getElem? (i := 178) rfl), lw_t8 (List.mem_of_getElem? (i := 114) rfl), lw_t8 (List.mem_of_getElem? (i := 115) rfl)⟩
theorem lw_p77 : lw_okq (⟨"InASackToTheRopeModel", "bestSack", "(I)I"⟩, 59) := ⟨⟨by decide +kernel, by decide +kernel⟩, lw_t6 (List.mem_of_getElem? (i := 178) rfl), lw_t8 (List.mem_of_getElem? (i := 118) rfl), lw_t8 (List.mem_of_getElem? (i := 119) rfl)⟩
theorem lw_p78 : lw_okq (⟨"InASackToTheRopeModel", "inWith", "(II)I"⟩, 59) := ⟨⟨by decide +kernel, by decide +kernel⟩, lw_t6 (List.mem_of_getElem? (i := 178) rfl), lw_t8 (List.mem_of_getElem? (i := 122) rfl), lw_t8 (List.mem_of_getElem? (i := 123) rfl)⟩
theorem lw_p79 : lw_okq (⟨"InASackToTheRopeModel", "inRolling", "(II)I"⟩, 59) := ⟨⟨by decide +kernel, by decide +kernel⟩, lw_t6 (List.mem_of_getElem? (i := 178) rfl), lw_t8 (List.mem_of_getElem? (i := 126) rfl), lw_t8 (List.mem_of_getElem? (i := 127) rfl)⟩
def lw_privs_5 : List (MethodName × Nat) := [(⟨"InASackToTheRopeModel", "isSo", "(II)Z"⟩, 59), (⟨"InASackToTheRopeModel", "starts", "()V"⟩, 59), (⟨"InASackToTheRopeModel", "second", "()V"⟩, 59), (⟨"InASackToTheRopeModel", "rests", "()V"⟩, 59), (⟨"InASackToTheRopeModel", "riskNow", "()I"⟩, 59), (⟨"InASackToTheRopeModel", "puffs", "()V"⟩, 59), (⟨"InASackToTheRopeModel", "falls", "()V"⟩, 59), (⟨"InASackToTheRopeModel", "inOf", "(I)I"⟩, 59), (⟨"InASackToTheRopeModel", "in", "()I"⟩, 59), (⟨"InASackToTheRopeModel", "withRope", "(I)I"⟩, 59), (⟨"InASackToTheRopeModel", "firstIn", "()I"⟩, 59), (⟨"InASackToTheRopeModel", "how", "(I)I"⟩, 59), (⟨"InASackToTheRopeModel", "inAs", "(II)I"⟩, 59), (⟨"InASackToTheRopeModel", "bestSack", "(I)I"⟩, 59), (⟨"InASackToTheRopeModel", "inWith", "(II)I"⟩, 59), (⟨"InASackToTheRopeModel", "inRolling", "(II)I"⟩, 59)]
theorem lw_r5 : ∀ q ∈ lw_privs_5, lw_okq q := List.forall_mem_cons.mpr ⟨lw_p64, List.forall_mem_cons.mpr ⟨lw_p65, List.forall_mem_cons.mpr ⟨lw_p66, List.forall_mem_cons.mpr ⟨lw_p67, List.forall_mem_cons.mpr ⟨lw_p68, List.forall_mem_cons.mpr ⟨lw_p69, List.forall_mem_cons.mpr ⟨lw_p70, List.forall_mem_cons.mpr ⟨lw_p71, List.forall_mem_cons.mpr ⟨lw_p72, List.forall_mem_cons.mpr ⟨lw_p73, List.forall_mem_cons.mpr ⟨lw_p74, List.forall_mem_cons.mpr ⟨lw_p75, List.forall_mem_cons.mpr ⟨lw_p76, List.forall_mem_cons.mpr ⟨lw_p77, List.forall_mem_cons.mpr ⟨lw_p78, List.forall_mem_cons.mpr ⟨lw_p79, fun _ h => absurd h List.not_mem_nil⟩⟩⟩⟩⟩⟩⟩⟩⟩⟩⟩⟩⟩⟩⟩⟩
theorem lw_p80 : lw_okq (⟨"InASackToTheRopeModel", "gives", "(IIIIIII)V"⟩, 59) := ⟨⟨by decide +kernel, by decide +kernel⟩, lw_t6 (List.mem_of_getElem? (i := 178) rfl), lw_t8 (List.mem_of_getElem? (i := 134) rfl), lw_t8 (List.mem_of_getElem? (i := 135) rfl)⟩
theorem lw_p81 : lw_okq (⟨"InASackToTheRopeModel", "twoIn", "(III)I"⟩, 59) := ⟨⟨by decide +kernel, by decide +kernel⟩, lw_t6 (List.mem_of_getElem? (i := 178) rfl), lw_t8 (List.mem_of_getElem? (i := 142) rfl), lw_t8 (List.mem_of_getElem? (i := 143) rfl)⟩
theorem lw_p82 : lw_okq (⟨"InASackToTheRopeModel", "startOf", "(II)I"⟩, 59) := ⟨⟨by decide +kernel, by decide +kernel⟩, lw_t6 (List.mem_of_getElem? (i := 178) rfl), lw_t8 (List.mem_of_getElem? (i := 154) rfl), lw_t8 (List.mem_of_getElem? (i := 155) rfl)⟩
theorem lw_p83 : lw_okq (⟨"InASackToTheRopeModel", "inFrom", "(II)I"⟩, 59) := ⟨⟨by decide +kernel, by decide +kernel⟩, lw_t6 (List.mem_of_getElem? (i := 178) rfl), lw_t8 (List.mem_of_getElem? (i := 158) rfl), lw_t8 (List.mem_of_getElem? (i := 159) rfl)⟩
theorem lw_p84 : lw_okq (⟨"InASackToTheRopeModel", "noTen", "(I)I"⟩, 59) := ⟨⟨by decide +kernel, by decide +kernel⟩, lw_t6 (List.mem_of_getElem? (i := 178) rfl), lw_t8 (List.mem_of_getElem? (i := 162) rfl), lw_t8 (List.mem_of_getElem? (i := 163) rfl)⟩
theorem lw_p85 : lw_okq (⟨"InASackToTheRopeModel", "intAt", "(II)I"⟩, 59) := ⟨⟨by decide +kernel, by decide +kernel⟩, lw_t6 (List.mem_of_getElem? (i := 178) rfl), lw_t8 (List.mem_of_getElem? (i := 186) rfl), lw_t8 (List.mem_of_getElem? (i := 187) rfl)⟩
theorem lw_p86 : lw_okq (⟨"InASackToTheRopeModel", "raced", "()I"⟩, 59) := ⟨⟨by decide +kernel, by decide +kernel⟩, lw_t6 (List.mem_of_getElem? (i := 178) rfl), lw_t8 (List.mem_of_getElem? (i := 202) rfl), lw_t8 (List.mem_of_getElem? (i := 203) rfl)⟩
theorem lw_p87 : lw_okq (⟨"InASackToTheRopeModel", "secondInTruth", "()V"⟩, 59) := ⟨⟨by decide +kernel, by decide +kernel⟩, lw_t6 (List.mem_of_getElem? (i := 178) rfl), lw_t8 (List.mem_of_getElem? (i := 206) rfl), lw_t8 (List.mem_of_getElem? (i := 207) rfl)⟩
theorem lw_p88 : lw_okq (⟨"InASackToTheRopeModel", "draw", "(I)I"⟩, 59) := ⟨⟨by decide +kernel, by decide +kernel⟩, lw_t6 (List.mem_of_getElem? (i := 178) rfl), lw_t8 (List.mem_of_getElem? (i := 210) rfl), lw_t8 (List.mem_of_getElem? (i := 211) rfl)⟩
theorem lw_p89 : lw_okq (⟨"InASackToTheRopeModel", "hopping", "(II)I"⟩, 59) := ⟨⟨by decide +kernel, by decide +kernel⟩, lw_t6 (List.mem_of_getElem? (i := 178) rfl), lw_t8 (List.mem_of_getElem? (i := 227) rfl), lw_t8 (List.mem_of_getElem? (i := 228) rfl)⟩
theorem lw_p90 : lw_okq (⟨"InASackToTheRopeModel", "body", "(I)V"⟩, 59) := ⟨⟨by decide +kernel, by decide +kernel⟩, lw_t6 (List.mem_of_getElem? (i := 178) rfl), lw_t8 (List.mem_of_getElem? (i := 231) rfl), lw_t8 (List.mem_of_getElem? (i := 232) rfl)⟩
theorem lw_p91 : lw_okq (⟨"InASackToTheRopeModel", "falling", "(II)I"⟩, 59) := ⟨⟨by decide +kernel, by decide +kernel⟩, lw_t6 (List.mem_of_getElem? (i := 178) rfl), lw_t8 (List.mem_of_getElem? (i := 235) rfl), lw_t8 (List.mem_of_getElem? (i := 236) rfl)⟩
theorem lw_p92 : lw_okq (⟨"InASackToTheRopeModel", "rising", "(II)I"⟩, 59) := ⟨⟨by decide +kernel, by decide +kernel⟩, lw_t6 (List.mem_of_getElem? (i := 178) rfl), lw_t8 (List.mem_of_getElem? (i := 239) rfl), lw_t9 (List.mem_of_getElem? (i := 0) rfl)⟩
def lw_privs_6 : List (MethodName × Nat) := [(⟨"InASackToTheRopeModel", "gives", "(IIIIIII)V"⟩, 59), (⟨"InASackToTheRopeModel", "twoIn", "(III)I"⟩, 59), (⟨"InASackToTheRopeModel", "startOf", "(II)I"⟩, 59), (⟨"InASackToTheRopeModel", "inFrom", "(II)I"⟩, 59), (⟨"InASackToTheRopeModel", "noTen", "(I)I"⟩, 59), (⟨"InASackToTheRopeModel", "intAt", "(II)I"⟩, 59), (⟨"InASackToTheRopeModel", "raced", "()I"⟩, 59), (⟨"InASackToTheRopeModel", "secondInTruth", "()V"⟩, 59), (⟨"InASackToTheRopeModel", "draw", "(I)I"⟩, 59), (⟨"InASackToTheRopeModel", "hopping", "(II)I"⟩, 59), (⟨"InASackToTheRopeModel", "body", "(I)V"⟩, 59), (⟨"InASackToTheRopeModel", "falling", "(II)I"⟩, 59), (⟨"InASackToTheRopeModel", "rising", "(II)I"⟩, 59)]
theorem lw_r6 : ∀ q ∈ lw_privs_6, lw_okq q := List.forall_mem_cons.mpr ⟨lw_p80, List.forall_mem_cons.mpr ⟨lw_p81, List.forall_mem_cons.mpr ⟨lw_p82, List.forall_mem_cons.mpr ⟨lw_p83, List.forall_mem_cons.mpr ⟨lw_p84, List.forall_mem_cons.mpr ⟨lw_p85, List.forall_mem_cons.mpr ⟨lw_p86, List.forall_mem_cons.mpr ⟨lw_p87, List.forall_mem_cons.mpr ⟨lw_p88, List.forall_mem_cons.mpr ⟨lw_p89, List.forall_mem_cons.mpr ⟨lw_p90, List.forall_mem_cons.mpr ⟨lw_p91, List.forall_mem_cons.mpr ⟨lw_p92, fun _ h => absurd h List.not_mem_nil⟩⟩⟩⟩⟩⟩⟩⟩⟩⟩⟩⟩⟩
def lw_privs : List (MethodName × Nat) := lw_privs_1 ++ (lw_privs_2 ++ (lw_privs_3 ++ (lw_privs_4 ++ (lw_privs_5 ++ (lw_privs_6)))))
def lw_tbl : List Cond := k2_sels lw_privs ++ tables_1
theorem lw_privs_ok : ∀ q ∈ lw_privs, lw_okq q := by
  show ∀ q ∈ lw_privs_1 ++ (lw_privs_2 ++ (lw_privs_3 ++ (lw_privs_4 ++ (lw_privs_5 ++ (lw_privs_6))))), lw_okq q
  exact List.forall_mem_append.mpr ⟨lw_r1, List.forall_mem_append.mpr ⟨lw_r2, List.forall_mem_append.mpr ⟨lw_r3, List.forall_mem_append.mpr ⟨lw_r4, List.forall_mem_append.mpr ⟨lw_r5, lw_r6⟩⟩⟩⟩⟩
-- ===== ONE list of words for every method: the tables' words that hold all through a run =====
def lw_all : List Cond := lw_tbl.filter goodWord
/-- a word of the tables by its place: claim/WORDS.tsv -/
theorem lw_w {w : Cond} (i : Nat) (h : lw_tbl[i]? = some w) (g : goodWord w = true) : w ∈ lw_all := List.mem_filter.mpr ⟨List.mem_of_getElem? h, g⟩
theorem lw_all_tbl {w : Cond} (h : w ∈ lw_all) : w ∈ lw_tbl := (List.mem_filter.mp h).1
theorem lw_self : GoodIn lw_all lw_all := fun w h => ⟨h, good_of_word (List.mem_filter.mp h).2⟩
/-- a class's field words, by their places -/
theorem lw_in (ws : List Cond) (ps : List Nat) (hp : ws = ps.filterMap (fun i => lw_tbl[i]?)) (hg : ws.all goodWord = true) : ∀ w ∈ ws, w ∈ lw_all := by
  intro w h
  have h1 := List.all_eq_true.mp hg w h
  rw [hp] at h
  obtain ⟨i, -, hi⟩ := List.mem_filterMap.mp h
  exact lw_w i hi h1
/-- the words of a contract for the method y with code b, L locals, answer r -/
abbrev ws_ (y : MethodName) (b : ByteArray) (L : Nat) (r : Option FieldType) : List Cond := Cond.code y b L r :: lw_all
theorem lw_meth {y : MethodName} {b : ByteArray} {L : Nat} {r : Option FieldType} (h : Cond.code y b L r ∈ lw_all) : GoodIn lw_all (ws_ y b L r) := by
  intro w hw
  rcases List.mem_cons.mp hw with e | e
  · rw [e]
    exact lw_self _ h
  · exact lw_self _ e
theorem lw_app {a c : List Cond} (ha : ∀ w ∈ a, w ∈ lw_all) (hc : GoodIn lw_all c) : GoodIn lw_all (a ++ c) := by
  intro w hw
  rcases List.mem_append.mp hw with e | e
  · exact lw_self w (ha w e)
  · exact hc w e
/-- what a call through an object asks: cwV n hts (lw_V ..) -/
theorem lw_V {own : String} {idx : Nat} {C : String} {y : MethodName} {b : ByteArray} {L : Nat} {r : Option FieldType} (h1 : Cond.methodLink own idx y ∈ lw_all) (h2 : Cond.instanceMethod y ∈ lw_all) (h3 : Cond.selects C y y ∈ lw_all) (h4 : Cond.initialized C ∈ lw_all) (h5 : Cond.code y b L r ∈ lw_all) : GoodIn lw_all (wsV own idx C y (ws_ y b L r)) := by
  refine lw_app ?_ (lw_meth h5)
  intro w hw
  simp only [List.mem_cons, List.not_mem_nil, or_false] at hw
  rcases hw with e | e | e | e
  · rw [e]; exact h1
  · rw [e]; exact h2
  · rw [e]; exact h3
  · rw [e]; exact h4
/-- what a static call asks: va_cwS n hts (lw_S ..) -/
theorem lw_S {own : String} {idx : Nat} {y : MethodName} {b : ByteArray} {L : Nat} {r : Option FieldType} (h1 : Cond.methodLink own idx y ∈ lw_all) (h2 : Cond.static y ∈ lw_all) (h3 : Cond.initialized y.cls ∈ lw_all) (h4 : Cond.code y b L r ∈ lw_all) : GoodIn lw_all (va_wsS own idx y (ws_ y b L r)) := by
  refine lw_app ?_ (lw_meth h4)
  intro w hw
  simp only [List.mem_cons, List.not_mem_nil, or_false] at hw
  rcases hw with e | e | e
  · rw [e]; exact h1
  · rw [e]; exact h2
  · rw [e]; exact h3
/-- the words of a contract for a method WITH HANDLERS (hh: its table) -/
abbrev wsW_ (y : MethodName) (b : ByteArray) (L : Nat) (r : Option FieldType) (hh : List (Nat × Nat × Nat × Nat)) : List Cond := Cond.codeWith y b L r hh :: lw_all
theorem lw_methW {y : MethodName} {b : ByteArray} {L : Nat} {r : Option FieldType} {hh : List (Nat × Nat × Nat × Nat)} (h : Cond.codeWith y b L r hh ∈ lw_all) : GoodIn lw_all (wsW_ y b L r hh) := by
  intro w hw
  rcases List.mem_cons.mp hw with e | e
  · rw [e]
    exact lw_self _ h
  · exact lw_self _ e
/-- any list of words by their places (lw_in), good -/
theorem lw_good {ws : List Cond} (h : ∀ w ∈ ws, w ∈ lw_all) : GoodIn lw_all ws := fun w hw => lw_self w (h w hw)
/-- what a call of a method with handlers asks: vx_cwVW n hts (lw_VW ..), vx_cwSW n hts (lw_SW ..) -/
theorem lw_VW {own : String} {idx : Nat} {C : String} {y : MethodName} {b : ByteArray} {L : Nat} {r : Option FieldType} {hh : List (Nat × Nat × Nat × Nat)} (h1 : Cond.methodLink own idx y ∈ lw_all) (h2 : Cond.instanceMethod y ∈ lw_all) (h3 : Cond.selects C y y ∈ lw_all) (h4 : Cond.initialized C ∈ lw_all) (h5 : Cond.codeWith y b L r hh ∈ lw_all) : GoodIn lw_all (wsV own idx C y (wsW_ y b L r hh)) := by
  refine lw_app ?_ (lw_methW h5)
  intro w hw
  simp only [List.mem_cons, List.not_mem_nil, or_false] at hw
  rcases hw with e | e | e | e
  · rw [e]; exact h1
  · rw [e]; exact h2
  · rw [e]; exact h3
  · rw [e]; exact h4
theorem lw_SW {own : String} {idx : Nat} {y : MethodName} {b : ByteArray} {L : Nat} {r : Option FieldType} {hh : List (Nat × Nat × Nat × Nat)} (h1 : Cond.methodLink own idx y ∈ lw_all) (h2 : Cond.static y ∈ lw_all) (h3 : Cond.initialized y.cls ∈ lw_all) (h4 : Cond.codeWith y b L r hh ∈ lw_all) : GoodIn lw_all (va_wsS own idx y (wsW_ y b L r hh)) := by
  refine lw_app ?_ (lw_methW h4)
  intro w hw
  simp only [List.mem_cons, List.not_mem_nil, or_false] at hw
  rcases hw with e | e | e
  · rw [e]; exact h1
  · rw [e]; exact h2
  · rw [e]; exact h3
/-- a word by its place in its run of the tables -/
theorem lw_at {r : List Cond} (hr : ∀ w ∈ r, w ∈ lw_tbl) {w : Cond} (i : Nat) (h : r[i]? = some w) : w ∈ lw_tbl := hr w (List.mem_of_getElem? h)
theorem lw_g {w : Cond} (h : w ∈ lw_tbl) (g : goodWord w = true) : w ∈ lw_all := List.mem_filter.mpr ⟨h, g⟩
theorem lw_ms : ∀ w ∈ k2_sels lw_privs, w ∈ lw_tbl := fun w h => show w ∈ k2_sels lw_privs ++ tables_1 from List.mem_append_left _ h
theorem lw_m1 : ∀ w ∈ tables_1_1, w ∈ lw_tbl := fun w h => show w ∈ k2_sels lw_privs ++ tables_1 from List.mem_append_right (k2_sels lw_privs) (show w ∈ tables_1 from List.mem_append_left _ h)
theorem lw_m2 : ∀ w ∈ tables_1_2, w ∈ lw_tbl := fun w h => show w ∈ k2_sels lw_privs ++ tables_1 from List.mem_append_right (k2_sels lw_privs) (show w ∈ tables_1 from List.mem_append_right _ (List.mem_append_left _ h))
theorem lw_m3 : ∀ w ∈ tables_1_3, w ∈ lw_tbl := fun w h => show w ∈ k2_sels lw_privs ++ tables_1 from List.mem_append_right (k2_sels lw_privs) (show w ∈ tables_1 from List.mem_append_right _ (List.mem_append_right _ (List.mem_append_left _ h)))
theorem lw_m4 : ∀ w ∈ tables_1_4, w ∈ lw_tbl := fun w h => show w ∈ k2_sels lw_privs ++ tables_1 from List.mem_append_right (k2_sels lw_privs) (show w ∈ tables_1 from List.mem_append_right _ (List.mem_append_right _ (List.mem_append_right _ (List.mem_append_left _ h))))
theorem lw_m5 : ∀ w ∈ tables_1_5, w ∈ lw_tbl := fun w h => show w ∈ k2_sels lw_privs ++ tables_1 from List.mem_append_right (k2_sels lw_privs) (show w ∈ tables_1 from List.mem_append_right _ (List.mem_append_right _ (List.mem_append_right _ (List.mem_append_right _ (List.mem_append_left _ h)))))
theorem lw_m6 : ∀ w ∈ tables_1_6, w ∈ lw_tbl := fun w h => show w ∈ k2_sels lw_privs ++ tables_1 from List.mem_append_right (k2_sels lw_privs) (show w ∈ tables_1 from List.mem_append_right _ (List.mem_append_right _ (List.mem_append_right _ (List.mem_append_right _ (List.mem_append_right _ (List.mem_append_left _ h))))))
theorem lw_m7 : ∀ w ∈ tables_1_7, w ∈ lw_tbl := fun w h => show w ∈ k2_sels lw_privs ++ tables_1 from List.mem_append_right (k2_sels lw_privs) (show w ∈ tables_1 from List.mem_append_right _ (List.mem_append_right _ (List.mem_append_right _ (List.mem_append_right _ (List.mem_append_right _ (List.mem_append_right _ (List.mem_append_left _ h)))))))
theorem lw_m8 : ∀ w ∈ tables_1_8, w ∈ lw_tbl := fun w h => show w ∈ k2_sels lw_privs ++ tables_1 from List.mem_append_right (k2_sels lw_privs) (show w ∈ tables_1 from List.mem_append_right _ (List.mem_append_right _ (List.mem_append_right _ (List.mem_append_right _ (List.mem_append_right _ (List.mem_append_right _ (List.mem_append_right _ (List.mem_append_left _ h))))))))
theorem lw_m9 : ∀ w ∈ tables_1_9, w ∈ lw_tbl := fun w h => show w ∈ k2_sels lw_privs ++ tables_1 from List.mem_append_right (k2_sels lw_privs) (show w ∈ tables_1 from List.mem_append_right _ (List.mem_append_right _ (List.mem_append_right _ (List.mem_append_right _ (List.mem_append_right _ (List.mem_append_right _ (List.mem_append_right _ (List.mem_append_right _ h))))))))
theorem qs0 : (Cond.selects "InASackToTheRope" ⟨"InASackToTheRope", "shelf", "(I)LInASackToTheRope$Shelf;"⟩ ⟨"InASackToTheRope", "shelf", "(I)LInASackToTheRope$Shelf;"⟩) ∈ lw_all := lw_g (lw_at lw_ms 0 rfl) rfl
theorem qs1 : (Cond.selects "java/lang/Throwable" ⟨"java/lang/Throwable", "fillInStackTrace", "(I)Ljava/lang/Throwable;"⟩ ⟨"java/lang/Throwable", "fillInStackTrace", "(I)Ljava/lang/Throwable;"⟩) ∈ lw_all := lw_g (lw_at lw_ms 1 rfl) rfl
theorem qs2 : (Cond.selects "InASackToTheRope" ⟨"InASackToTheRope", "refused", "(LInASackToTheRope$Refused;)I"⟩ ⟨"InASackToTheRope", "refused", "(LInASackToTheRope$Refused;)I"⟩) ∈ lw_all := lw_g (lw_at lw_ms 2 rfl) rfl
theorem qs3 : (Cond.selects "InASackToTheRope" ⟨"InASackToTheRope", "mustChild", "(I)V"⟩ ⟨"InASackToTheRope", "mustChild", "(I)V"⟩) ∈ lw_all := lw_g (lw_at lw_ms 3 rfl) rfl
theorem qs4 : (Cond.selects "InASackToTheRope" ⟨"InASackToTheRope", "beyond", "()I"⟩ ⟨"InASackToTheRope", "beyond", "()I"⟩) ∈ lw_all := lw_g (lw_at lw_ms 4 rfl) rfl
theorem qs5 : (Cond.selects "InASackToTheRope$Reader" ⟨"InASackToTheRope$Reader", "item", "()V"⟩ ⟨"InASackToTheRope$Reader", "item", "()V"⟩) ∈ lw_all := lw_g (lw_at lw_ms 5 rfl) rfl
theorem qs6 : (Cond.selects "InASackToTheRope$Reader" ⟨"InASackToTheRope$Reader", "sees", "(I)Z"⟩ ⟨"InASackToTheRope$Reader", "sees", "(I)Z"⟩) ∈ lw_all := lw_g (lw_at lw_ms 6 rfl) rfl
theorem qs7 : (Cond.selects "InASackToTheRope$Reader" ⟨"InASackToTheRope$Reader", "ends", "()Z"⟩ ⟨"InASackToTheRope$Reader", "ends", "()Z"⟩) ∈ lw_all := lw_g (lw_at lw_ms 7 rfl) rfl
theorem qs8 : (Cond.selects "InASackToTheRope$Reader" ⟨"InASackToTheRope$Reader", "child", "(I)V"⟩ ⟨"InASackToTheRope$Reader", "child", "(I)V"⟩) ∈ lw_all := lw_g (lw_at lw_ms 8 rfl) rfl
theorem qs9 : (Cond.selects "InASackToTheRope$Reader" ⟨"InASackToTheRope$Reader", "word", "(Ljava/lang/String;)V"⟩ ⟨"InASackToTheRope$Reader", "word", "(Ljava/lang/String;)V"⟩) ∈ lw_all := lw_g (lw_at lw_ms 9 rfl) rfl
theorem qs10 : (Cond.selects "InASackToTheRope$Reader" ⟨"InASackToTheRope$Reader", "must", "(I)V"⟩ ⟨"InASackToTheRope$Reader", "must", "(I)V"⟩) ∈ lw_all := lw_g (lw_at lw_ms 10 rfl) rfl
theorem qs11 : (Cond.selects "InASackToTheRope$Reader" ⟨"InASackToTheRope$Reader", "hasRoom", "(ZI)V"⟩ ⟨"InASackToTheRope$Reader", "hasRoom", "(ZI)V"⟩) ∈ lw_all := lw_g (lw_at lw_ms 11 rfl) rfl
theorem qs12 : (Cond.selects "InASackToTheRope$Reader" ⟨"InASackToTheRope$Reader", "number", "(II)I"⟩ ⟨"InASackToTheRope$Reader", "number", "(II)I"⟩) ∈ lw_all := lw_g (lw_at lw_ms 12 rfl) rfl
theorem qs13 : (Cond.selects "InASackToTheRope$Reader" ⟨"InASackToTheRope$Reader", "digit", "()Z"⟩ ⟨"InASackToTheRope$Reader", "digit", "()Z"⟩) ∈ lw_all := lw_g (lw_at lw_ms 13 rfl) rfl
theorem qs14 : (Cond.selects "InASackToTheRope$Reader" ⟨"InASackToTheRope$Reader", "sack", "(I)V"⟩ ⟨"InASackToTheRope$Reader", "sack", "(I)V"⟩) ∈ lw_all := lw_g (lw_at lw_ms 14 rfl) rfl
theorem qs15 : (Cond.selects "InASackToTheRope$Reader" ⟨"InASackToTheRope$Reader", "wearsOrWayOrWind", "()V"⟩ ⟨"InASackToTheRope$Reader", "wearsOrWayOrWind", "()V"⟩) ∈ lw_all := lw_g (lw_at lw_ms 15 rfl) rfl
theorem qs16 : (Cond.selects "InASackToTheRope$Reader" ⟨"InASackToTheRope$Reader", "one", "()I"⟩ ⟨"InASackToTheRope$Reader", "one", "()I"⟩) ∈ lw_all := lw_g (lw_at lw_ms 16 rfl) rfl
theorem qs17 : (Cond.selects "InASackToTheRope$Runner" ⟨"InASackToTheRope$Runner", "begins", "(LInASackToTheRope$Field;LInASackToTheRope$Hopper;IIII)LInASackToTheRope$Runner;"⟩ ⟨"InASackToTheRope$Runner", "begins", "(LInASackToTheRope$Field;LInASackToTheRope$Hopper;IIII)LInASackToTheRope$Runner;"⟩) ∈ lw_all := lw_g (lw_at lw_ms 17 rfl) rfl
theorem qs18 : (Cond.selects "InASackToTheRope$Runner" ⟨"InASackToTheRope$Runner", "lies", "()V"⟩ ⟨"InASackToTheRope$Runner", "lies", "()V"⟩) ∈ lw_all := lw_g (lw_at lw_ms 18 rfl) rfl
theorem qs19 : (Cond.selects "InASackToTheRope$Runner" ⟨"InASackToTheRope$Runner", "mends", "(I)V"⟩ ⟨"InASackToTheRope$Runner", "mends", "(I)V"⟩) ∈ lw_all := lw_g (lw_at lw_ms 19 rfl) rfl
theorem qs20 : (Cond.selects "InASackToTheRope$Runner" ⟨"InASackToTheRope$Runner", "riskNow", "()I"⟩ ⟨"InASackToTheRope$Runner", "riskNow", "()I"⟩) ∈ lw_all := lw_g (lw_at lw_ms 20 rfl) rfl
theorem qs21 : (Cond.selects "InASackToTheRope$Runner" ⟨"InASackToTheRope$Runner", "puffs", "()V"⟩ ⟨"InASackToTheRope$Runner", "puffs", "()V"⟩) ∈ lw_all := lw_g (lw_at lw_ms 21 rfl) rfl
theorem qs22 : (Cond.selects "InASackToTheRope$Runner" ⟨"InASackToTheRope$Runner", "goes", "(Z)V"⟩ ⟨"InASackToTheRope$Runner", "goes", "(Z)V"⟩) ∈ lw_all := lw_g (lw_at lw_ms 22 rfl) rfl
theorem qs23 : (Cond.selects "InASackToTheRope" ⟨"InASackToTheRope", "timeOf", "(I)I"⟩ ⟨"InASackToTheRope", "timeOf", "(I)I"⟩) ∈ lw_all := lw_g (lw_at lw_ms 23 rfl) rfl
theorem qs24 : (Cond.selects "InASackToTheRope" ⟨"InASackToTheRope", "someChildren", "()V"⟩ ⟨"InASackToTheRope", "someChildren", "()V"⟩) ∈ lw_all := lw_g (lw_at lw_ms 24 rfl) rfl
theorem qs25 : (Cond.selects "InASackToTheRope" ⟨"InASackToTheRope", "all", "()I"⟩ ⟨"InASackToTheRope", "all", "()I"⟩) ∈ lw_all := lw_g (lw_at lw_ms 25 rfl) rfl
theorem qs26 : (Cond.selects "InASackToTheRope" ⟨"InASackToTheRope", "winnerOf", "(I)I"⟩ ⟨"InASackToTheRope", "winnerOf", "(I)I"⟩) ∈ lw_all := lw_g (lw_at lw_ms 26 rfl) rfl
theorem qs27 : (Cond.selects "InASackToTheRope" ⟨"InASackToTheRope", "bestKind", "(I)I"⟩ ⟨"InASackToTheRope", "bestKind", "(I)I"⟩) ∈ lw_all := lw_g (lw_at lw_ms 27 rfl) rfl
theorem qs28 : (Cond.selects "InASackToTheRope" ⟨"InASackToTheRope", "timeAs", "(II)I"⟩ ⟨"InASackToTheRope", "timeAs", "(II)I"⟩) ∈ lw_all := lw_g (lw_at lw_ms 28 rfl) rfl
theorem qs29 : (Cond.selects "InASackToTheRope" ⟨"InASackToTheRope", "bestSack", "(I)I"⟩ ⟨"InASackToTheRope", "bestSack", "(I)I"⟩) ∈ lw_all := lw_g (lw_at lw_ms 29 rfl) rfl
theorem qs30 : (Cond.selects "InASackToTheRope" ⟨"InASackToTheRope", "timeIn", "(II)I"⟩ ⟨"InASackToTheRope", "timeIn", "(II)I"⟩) ∈ lw_all := lw_g (lw_at lw_ms 30 rfl) rfl
theorem qs31 : (Cond.selects "InASackToTheRope" ⟨"InASackToTheRope", "timeRolling", "(IZ)I"⟩ ⟨"InASackToTheRope", "timeRolling", "(IZ)I"⟩) ∈ lw_all := lw_g (lw_at lw_ms 31 rfl) rfl
theorem qs32 : (Cond.selects "InASackToTheRope$Given" ⟨"InASackToTheRope$Given", "seek", "(II)V"⟩ ⟨"InASackToTheRope$Given", "seek", "(II)V"⟩) ∈ lw_all := lw_g (lw_at lw_ms 32 rfl) rfl
theorem qs33 : (Cond.selects "InASackToTheRope$Given" ⟨"InASackToTheRope$Given", "worth", "()I"⟩ ⟨"InASackToTheRope$Given", "worth", "()I"⟩) ∈ lw_all := lw_g (lw_at lw_ms 33 rfl) rfl
theorem qs34 : (Cond.selects "InASackToTheRope" ⟨"InASackToTheRope", "startOf", "(II)I"⟩ ⟨"InASackToTheRope", "startOf", "(II)I"⟩) ∈ lw_all := lw_g (lw_at lw_ms 34 rfl) rfl
theorem qs35 : (Cond.selects "InASackToTheRope" ⟨"InASackToTheRope", "heatsOf", "(II[I)I"⟩ ⟨"InASackToTheRope", "heatsOf", "(II[I)I"⟩) ∈ lw_all := lw_g (lw_at lw_ms 35 rfl) rfl
theorem qs36 : (Cond.selects "InASackToTheRope" ⟨"InASackToTheRope", "wrongIn", "(LInASackToTheRope$Row;I)I"⟩ ⟨"InASackToTheRope", "wrongIn", "(LInASackToTheRope$Row;I)I"⟩) ∈ lw_all := lw_g (lw_at lw_ms 36 rfl) rfl
theorem qs37 : (Cond.selects "InASackToTheRope" ⟨"InASackToTheRope", "goesRace", "()I"⟩ ⟨"InASackToTheRope", "goesRace", "()I"⟩) ∈ lw_all := lw_g (lw_at lw_ms 37 rfl) rfl
theorem qs38 : (Cond.selects "InASackToTheRope" ⟨"InASackToTheRope", "shelvesFollow", "()V"⟩ ⟨"InASackToTheRope", "shelvesFollow", "()V"⟩) ∈ lw_all := lw_g (lw_at lw_ms 38 rfl) rfl
theorem qs39 : (Cond.selects "InASackToTheRopeModel" ⟨"InASackToTheRopeModel", "isShelf", "(I)Z"⟩ ⟨"InASackToTheRopeModel", "isShelf", "(I)Z"⟩) ∈ lw_all := lw_g (lw_at lw_ms 39 rfl) rfl
theorem qs40 : (Cond.selects "InASackToTheRopeModel" ⟨"InASackToTheRopeModel", "no", "(I)I"⟩ ⟨"InASackToTheRopeModel", "no", "(I)I"⟩) ∈ lw_all := lw_g (lw_at lw_ms 40 rfl) rfl
theorem qs41 : (Cond.selects "InASackToTheRopeModel" ⟨"InASackToTheRopeModel", "isChild", "(I)Z"⟩ ⟨"InASackToTheRopeModel", "isChild", "(I)Z"⟩) ∈ lw_all := lw_g (lw_at lw_ms 41 rfl) rfl
theorem qs42 : (Cond.selects "InASackToTheRopeModel" ⟨"InASackToTheRopeModel", "puts", "(I)V"⟩ ⟨"InASackToTheRopeModel", "puts", "(I)V"⟩) ∈ lw_all := lw_g (lw_at lw_ms 42 rfl) rfl
theorem qs43 : (Cond.selects "InASackToTheRopeModel" ⟨"InASackToTheRopeModel", "putsIn", "(I)V"⟩ ⟨"InASackToTheRopeModel", "putsIn", "(I)V"⟩) ∈ lw_all := lw_g (lw_at lw_ms 43 rfl) rfl
theorem qs44 : (Cond.selects "InASackToTheRopeModel" ⟨"InASackToTheRopeModel", "abs", "(I)I"⟩ ⟨"InASackToTheRopeModel", "abs", "(I)I"⟩) ∈ lw_all := lw_g (lw_at lw_ms 44 rfl) rfl
theorem qs45 : (Cond.selects "InASackToTheRopeModel" ⟨"InASackToTheRopeModel", "puff", "()I"⟩ ⟨"InASackToTheRopeModel", "puff", "()I"⟩) ∈ lw_all := lw_g (lw_at lw_ms 45 rfl) rfl
theorem qs46 : (Cond.selects "InASackToTheRopeModel" ⟨"InASackToTheRopeModel", "stride", "()I"⟩ ⟨"InASackToTheRopeModel", "stride", "()I"⟩) ∈ lw_all := lw_g (lw_at lw_ms 46 rfl) rfl
theorem qs47 : (Cond.selects "InASackToTheRopeModel" ⟨"InASackToTheRopeModel", "one", "(I)I"⟩ ⟨"InASackToTheRopeModel", "one", "(I)I"⟩) ∈ lw_all := lw_g (lw_at lw_ms 47 rfl) rfl
theorem qs48 : (Cond.selects "InASackToTheRopeModel" ⟨"InASackToTheRopeModel", "risk", "()I"⟩ ⟨"InASackToTheRopeModel", "risk", "()I"⟩) ∈ lw_all := lw_g (lw_at lw_ms 48 rfl) rfl
theorem qs49 : (Cond.selects "InASackToTheRopeModel" ⟨"InASackToTheRopeModel", "addsChild", "(III)I"⟩ ⟨"InASackToTheRopeModel", "addsChild", "(III)I"⟩) ∈ lw_all := lw_g (lw_at lw_ms 49 rfl) rfl
theorem qs50 : (Cond.selects "InASackToTheRopeModel" ⟨"InASackToTheRopeModel", "addsSack", "(II)I"⟩ ⟨"InASackToTheRopeModel", "addsSack", "(II)I"⟩) ∈ lw_all := lw_g (lw_at lw_ms 50 rfl) rfl
theorem qs51 : (Cond.selects "InASackToTheRopeModel" ⟨"InASackToTheRopeModel", "isSack", "(I)Z"⟩ ⟨"InASackToTheRopeModel", "isSack", "(I)Z"⟩) ∈ lw_all := lw_g (lw_at lw_ms 51 rfl) rfl
theorem qs52 : (Cond.selects "InASackToTheRopeModel" ⟨"InASackToTheRopeModel", "isAsked", "(II)Z"⟩ ⟨"InASackToTheRopeModel", "isAsked", "(II)Z"⟩) ∈ lw_all := lw_g (lw_at lw_ms 52 rfl) rfl
theorem qs53 : (Cond.selects "InASackToTheRopeModel" ⟨"InASackToTheRopeModel", "told", "(I)I"⟩ ⟨"InASackToTheRopeModel", "told", "(I)I"⟩) ∈ lw_all := lw_g (lw_at lw_ms 53 rfl) rfl
theorem qs54 : (Cond.selects "InASackToTheRopeModel" ⟨"InASackToTheRopeModel", "tells", "(II)V"⟩ ⟨"InASackToTheRopeModel", "tells", "(II)V"⟩) ∈ lw_all := lw_g (lw_at lw_ms 54 rfl) rfl
theorem qs55 : (Cond.selects "InASackToTheRopeModel" ⟨"InASackToTheRopeModel", "wanted", "(I)I"⟩ ⟨"InASackToTheRopeModel", "wanted", "(I)I"⟩) ∈ lw_all := lw_g (lw_at lw_ms 55 rfl) rfl
theorem qs56 : (Cond.selects "InASackToTheRopeModel" ⟨"InASackToTheRopeModel", "all", "([IZ)V"⟩ ⟨"InASackToTheRopeModel", "all", "([IZ)V"⟩) ∈ lw_all := lw_g (lw_at lw_ms 56 rfl) rfl
theorem qs57 : (Cond.selects "InASackToTheRopeModel" ⟨"InASackToTheRopeModel", "carries", "([I[IIZ)I"⟩ ⟨"InASackToTheRopeModel", "carries", "([I[IIZ)I"⟩) ∈ lw_all := lw_g (lw_at lw_ms 57 rfl) rfl
theorem qs58 : (Cond.selects "InASackToTheRopeModel" ⟨"InASackToTheRopeModel", "item", "()Z"⟩ ⟨"InASackToTheRopeModel", "item", "()Z"⟩) ∈ lw_all := lw_g (lw_at lw_ms 58 rfl) rfl
theorem qs59 : (Cond.selects "InASackToTheRopeModel" ⟨"InASackToTheRopeModel", "stands", "(I)Z"⟩ ⟨"InASackToTheRopeModel", "stands", "(I)Z"⟩) ∈ lw_all := lw_g (lw_at lw_ms 59 rfl) rfl
theorem qs60 : (Cond.selects "InASackToTheRopeModel" ⟨"InASackToTheRopeModel", "wrong", "(I)Z"⟩ ⟨"InASackToTheRopeModel", "wrong", "(I)Z"⟩) ∈ lw_all := lw_g (lw_at lw_ms 60 rfl) rfl
theorem qs61 : (Cond.selects "InASackToTheRopeModel" ⟨"InASackToTheRopeModel", "word", "()I"⟩ ⟨"InASackToTheRopeModel", "word", "()I"⟩) ∈ lw_all := lw_g (lw_at lw_ms 61 rfl) rfl
theorem qs62 : (Cond.selects "InASackToTheRopeModel" ⟨"InASackToTheRopeModel", "reads", "()Z"⟩ ⟨"InASackToTheRopeModel", "reads", "()Z"⟩) ∈ lw_all := lw_g (lw_at lw_ms 62 rfl) rfl
theorem qs63 : (Cond.selects "InASackToTheRopeModel" ⟨"InASackToTheRopeModel", "isDigit", "()Z"⟩ ⟨"InASackToTheRopeModel", "isDigit", "()Z"⟩) ∈ lw_all := lw_g (lw_at lw_ms 63 rfl) rfl
theorem qs64 : (Cond.selects "InASackToTheRopeModel" ⟨"InASackToTheRopeModel", "isSo", "(II)Z"⟩ ⟨"InASackToTheRopeModel", "isSo", "(II)Z"⟩) ∈ lw_all := lw_g (lw_at lw_ms 64 rfl) rfl
theorem qs65 : (Cond.selects "InASackToTheRopeModel" ⟨"InASackToTheRopeModel", "starts", "()V"⟩ ⟨"InASackToTheRopeModel", "starts", "()V"⟩) ∈ lw_all := lw_g (lw_at lw_ms 65 rfl) rfl
theorem qs66 : (Cond.selects "InASackToTheRopeModel" ⟨"InASackToTheRopeModel", "second", "()V"⟩ ⟨"InASackToTheRopeModel", "second", "()V"⟩) ∈ lw_all := lw_g (lw_at lw_ms 66 rfl) rfl
theorem qs67 : (Cond.selects "InASackToTheRopeModel" ⟨"InASackToTheRopeModel", "rests", "()V"⟩ ⟨"InASackToTheRopeModel", "rests", "()V"⟩) ∈ lw_all := lw_g (lw_at lw_ms 67 rfl) rfl
theorem qs68 : (Cond.selects "InASackToTheRopeModel" ⟨"InASackToTheRopeModel", "riskNow", "()I"⟩ ⟨"InASackToTheRopeModel", "riskNow", "()I"⟩) ∈ lw_all := lw_g (lw_at lw_ms 68 rfl) rfl
theorem qs69 : (Cond.selects "InASackToTheRopeModel" ⟨"InASackToTheRopeModel", "puffs", "()V"⟩ ⟨"InASackToTheRopeModel", "puffs", "()V"⟩) ∈ lw_all := lw_g (lw_at lw_ms 69 rfl) rfl
theorem qs70 : (Cond.selects "InASackToTheRopeModel" ⟨"InASackToTheRopeModel", "falls", "()V"⟩ ⟨"InASackToTheRopeModel", "falls", "()V"⟩) ∈ lw_all := lw_g (lw_at lw_ms 70 rfl) rfl
theorem qs71 : (Cond.selects "InASackToTheRopeModel" ⟨"InASackToTheRopeModel", "inOf", "(I)I"⟩ ⟨"InASackToTheRopeModel", "inOf", "(I)I"⟩) ∈ lw_all := lw_g (lw_at lw_ms 71 rfl) rfl
theorem qs72 : (Cond.selects "InASackToTheRopeModel" ⟨"InASackToTheRopeModel", "in", "()I"⟩ ⟨"InASackToTheRopeModel", "in", "()I"⟩) ∈ lw_all := lw_g (lw_at lw_ms 72 rfl) rfl
theorem qs73 : (Cond.selects "InASackToTheRopeModel" ⟨"InASackToTheRopeModel", "withRope", "(I)I"⟩ ⟨"InASackToTheRopeModel", "withRope", "(I)I"⟩) ∈ lw_all := lw_g (lw_at lw_ms 73 rfl) rfl
theorem qs74 : (Cond.selects "InASackToTheRopeModel" ⟨"InASackToTheRopeModel", "firstIn", "()I"⟩ ⟨"InASackToTheRopeModel", "firstIn", "()I"⟩) ∈ lw_all := lw_g (lw_at lw_ms 74 rfl) rfl
theorem qs75 : (Cond.selects "InASackToTheRopeModel" ⟨"InASackToTheRopeModel", "how", "(I)I"⟩ ⟨"InASackToTheRopeModel", "how", "(I)I"⟩) ∈ lw_all := lw_g (lw_at lw_ms 75 rfl) rfl
theorem qs76 : (Cond.selects "InASackToTheRopeModel" ⟨"InASackToTheRopeModel", "inAs", "(II)I"⟩ ⟨"InASackToTheRopeModel", "inAs", "(II)I"⟩) ∈ lw_all := lw_g (lw_at lw_ms 76 rfl) rfl
theorem qs77 : (Cond.selects "InASackToTheRopeModel" ⟨"InASackToTheRopeModel", "bestSack", "(I)I"⟩ ⟨"InASackToTheRopeModel", "bestSack", "(I)I"⟩) ∈ lw_all := lw_g (lw_at lw_ms 77 rfl) rfl
theorem qs78 : (Cond.selects "InASackToTheRopeModel" ⟨"InASackToTheRopeModel", "inWith", "(II)I"⟩ ⟨"InASackToTheRopeModel", "inWith", "(II)I"⟩) ∈ lw_all := lw_g (lw_at lw_ms 78 rfl) rfl
theorem qs79 : (Cond.selects "InASackToTheRopeModel" ⟨"InASackToTheRopeModel", "inRolling", "(II)I"⟩ ⟨"InASackToTheRopeModel", "inRolling", "(II)I"⟩) ∈ lw_all := lw_g (lw_at lw_ms 79 rfl) rfl
theorem qs80 : (Cond.selects "InASackToTheRopeModel" ⟨"InASackToTheRopeModel", "gives", "(IIIIIII)V"⟩ ⟨"InASackToTheRopeModel", "gives", "(IIIIIII)V"⟩) ∈ lw_all := lw_g (lw_at lw_ms 80 rfl) rfl
theorem qs81 : (Cond.selects "InASackToTheRopeModel" ⟨"InASackToTheRopeModel", "twoIn", "(III)I"⟩ ⟨"InASackToTheRopeModel", "twoIn", "(III)I"⟩) ∈ lw_all := lw_g (lw_at lw_ms 81 rfl) rfl
theorem qs82 : (Cond.selects "InASackToTheRopeModel" ⟨"InASackToTheRopeModel", "startOf", "(II)I"⟩ ⟨"InASackToTheRopeModel", "startOf", "(II)I"⟩) ∈ lw_all := lw_g (lw_at lw_ms 82 rfl) rfl
theorem qs83 : (Cond.selects "InASackToTheRopeModel" ⟨"InASackToTheRopeModel", "inFrom", "(II)I"⟩ ⟨"InASackToTheRopeModel", "inFrom", "(II)I"⟩) ∈ lw_all := lw_g (lw_at lw_ms 83 rfl) rfl
theorem qs84 : (Cond.selects "InASackToTheRopeModel" ⟨"InASackToTheRopeModel", "noTen", "(I)I"⟩ ⟨"InASackToTheRopeModel", "noTen", "(I)I"⟩) ∈ lw_all := lw_g (lw_at lw_ms 84 rfl) rfl
theorem qs85 : (Cond.selects "InASackToTheRopeModel" ⟨"InASackToTheRopeModel", "intAt", "(II)I"⟩ ⟨"InASackToTheRopeModel", "intAt", "(II)I"⟩) ∈ lw_all := lw_g (lw_at lw_ms 85 rfl) rfl
theorem qs86 : (Cond.selects "InASackToTheRopeModel" ⟨"InASackToTheRopeModel", "raced", "()I"⟩ ⟨"InASackToTheRopeModel", "raced", "()I"⟩) ∈ lw_all := lw_g (lw_at lw_ms 86 rfl) rfl
theorem qs87 : (Cond.selects "InASackToTheRopeModel" ⟨"InASackToTheRopeModel", "secondInTruth", "()V"⟩ ⟨"InASackToTheRopeModel", "secondInTruth", "()V"⟩) ∈ lw_all := lw_g (lw_at lw_ms 87 rfl) rfl
theorem qs88 : (Cond.selects "InASackToTheRopeModel" ⟨"InASackToTheRopeModel", "draw", "(I)I"⟩ ⟨"InASackToTheRopeModel", "draw", "(I)I"⟩) ∈ lw_all := lw_g (lw_at lw_ms 88 rfl) rfl
theorem qs89 : (Cond.selects "InASackToTheRopeModel" ⟨"InASackToTheRopeModel", "hopping", "(II)I"⟩ ⟨"InASackToTheRopeModel", "hopping", "(II)I"⟩) ∈ lw_all := lw_g (lw_at lw_ms 89 rfl) rfl
theorem qs90 : (Cond.selects "InASackToTheRopeModel" ⟨"InASackToTheRopeModel", "body", "(I)V"⟩ ⟨"InASackToTheRopeModel", "body", "(I)V"⟩) ∈ lw_all := lw_g (lw_at lw_ms 90 rfl) rfl
theorem qs91 : (Cond.selects "InASackToTheRopeModel" ⟨"InASackToTheRopeModel", "falling", "(II)I"⟩ ⟨"InASackToTheRopeModel", "falling", "(II)I"⟩) ∈ lw_all := lw_g (lw_at lw_ms 91 rfl) rfl
theorem qs92 : (Cond.selects "InASackToTheRopeModel" ⟨"InASackToTheRopeModel", "rising", "(II)I"⟩ ⟨"InASackToTheRopeModel", "rising", "(II)I"⟩) ∈ lw_all := lw_g (lw_at lw_ms 92 rfl) rfl
