-- ===== PART A: goes FIRST, ahead of the names: the tables' words, and 'selects' of the private methods out of them =====
/-- a private method of a class that the tables say can be made, by its rows of tables_1 -/
def lw_okq (q : MethodName × Nat) : Prop := (q.1.cls ≠ "java/lang/invoke/MethodHandle" ∧ q.1.cls ≠ "java/lang/invoke/VarHandle") ∧ Cond.instantiable q.1.cls q.2 ∈ tables_1 ∧ Cond.privateMethod q.1 ∈ tables_1 ∧ Cond.instanceMethod q.1 ∈ tables_1
set_option maxRecDepth 100000
theorem lw_t1 {w : Cond} (h : w ∈ tables_1_1) : w ∈ tables_1 := List.mem_append_left _ h
theorem lw_t2 {w : Cond} (h : w ∈ tables_1_2) : w ∈ tables_1 := List.mem_append_right _ (List.mem_append_left _ h)
theorem lw_t3 {w : Cond} (h : w ∈ tables_1_3) : w ∈ tables_1 := List.mem_append_right _ (List.mem_append_right _ (List.mem_append_left _ h))
theorem lw_t4 {w : Cond} (h : w ∈ tables_1_4) : w ∈ tables_1 := List.mem_append_right _ (List.mem_append_right _ (List.mem_append_right _ (List.mem_append_left _ h)))
theorem lw_t5 {w : Cond} (h : w ∈ tables_1_5) : w ∈ tables_1 := List.mem_append_right _ (List.mem_append_right _ (List.mem_append_right _ (List.mem_append_right _ (List.mem_append_left _ h))))
theorem lw_t6 {w : Cond} (h : w ∈ tables_1_6) : w ∈ tables_1 := List.mem_append_right _ (List.mem_append_right _ (List.mem_append_right _ (List.mem_append_right _ (List.mem_append_right _ (List.mem_append_left _ h)))))
theorem lw_t7 {w : Cond} (h : w ∈ tables_1_7) : w ∈ tables_1 := List.mem_append_right _ (List.mem_append_right _ (List.mem_append_right _ (List.mem_append_right _ (List.mem_append_right _ (List.mem_append_right _ h)))))
theorem lw_p0 : lw_okq (⟨"SpoonScales", "isEater", "(I)Z"⟩, 14) := ⟨⟨by decide +kernel, by decide +kernel⟩, lw_t1 (List.mem_of_getElem? (i := 32) rfl), lw_t1 (List.mem_of_getElem? (i := 226) rfl), lw_t1 (List.mem_of_getElem? (i := 227) rfl)⟩
theorem lw_p1 : lw_okq (⟨"SpoonScales", "spoonOf", "([III)I"⟩, 14) := ⟨⟨by decide +kernel, by decide +kernel⟩, lw_t1 (List.mem_of_getElem? (i := 32) rfl), lw_t2 (List.mem_of_getElem? (i := 4) rfl), lw_t2 (List.mem_of_getElem? (i := 5) rfl)⟩
theorem lw_p2 : lw_okq (⟨"SpoonScales", "name", "([II)V"⟩, 14) := ⟨⟨by decide +kernel, by decide +kernel⟩, lw_t1 (List.mem_of_getElem? (i := 32) rfl), lw_t2 (List.mem_of_getElem? (i := 8) rfl), lw_t2 (List.mem_of_getElem? (i := 9) rfl)⟩
theorem lw_p3 : lw_okq (⟨"SpoonScales", "told", "(III)I"⟩, 14) := ⟨⟨by decide +kernel, by decide +kernel⟩, lw_t1 (List.mem_of_getElem? (i := 32) rfl), lw_t2 (List.mem_of_getElem? (i := 12) rfl), lw_t2 (List.mem_of_getElem? (i := 13) rfl)⟩
theorem lw_p4 : lw_okq (⟨"SpoonScales", "law", "()LSpoonScales$Law;"⟩, 14) := ⟨⟨by decide +kernel, by decide +kernel⟩, lw_t1 (List.mem_of_getElem? (i := 32) rfl), lw_t2 (List.mem_of_getElem? (i := 16) rfl), lw_t2 (List.mem_of_getElem? (i := 17) rfl)⟩
theorem lw_p5 : lw_okq (⟨"SpoonScales", "holds", "([II)I"⟩, 14) := ⟨⟨by decide +kernel, by decide +kernel⟩, lw_t1 (List.mem_of_getElem? (i := 32) rfl), lw_t2 (List.mem_of_getElem? (i := 75) rfl), lw_t2 (List.mem_of_getElem? (i := 76) rfl)⟩
theorem lw_p6 : lw_okq (⟨"SpoonScales", "eat", "([III)I"⟩, 14) := ⟨⟨by decide +kernel, by decide +kernel⟩, lw_t1 (List.mem_of_getElem? (i := 32) rfl), lw_t2 (List.mem_of_getElem? (i := 82) rfl), lw_t2 (List.mem_of_getElem? (i := 83) rfl)⟩
theorem lw_p7 : lw_okq (⟨"SpoonScales", "isGuilty", "([II)Z"⟩, 14) := ⟨⟨by decide +kernel, by decide +kernel⟩, lw_t1 (List.mem_of_getElem? (i := 32) rfl), lw_t2 (List.mem_of_getElem? (i := 90) rfl), lw_t2 (List.mem_of_getElem? (i := 91) rfl)⟩
theorem lw_p8 : lw_okq (⟨"SpoonScales", "four", "(I)V"⟩, 14) := ⟨⟨by decide +kernel, by decide +kernel⟩, lw_t1 (List.mem_of_getElem? (i := 32) rfl), lw_t2 (List.mem_of_getElem? (i := 148) rfl), lw_t2 (List.mem_of_getElem? (i := 149) rfl)⟩
theorem lw_p9 : lw_okq (⟨"SpoonScales$Reader", "next", "()V"⟩, 10) := ⟨⟨by decide +kernel, by decide +kernel⟩, lw_t2 (List.mem_of_getElem? (i := 161) rfl), lw_t2 (List.mem_of_getElem? (i := 204) rfl), lw_t2 (List.mem_of_getElem? (i := 205) rfl)⟩
theorem lw_p10 : lw_okq (⟨"SpoonScales$Reader", "see", "()I"⟩, 10) := ⟨⟨by decide +kernel, by decide +kernel⟩, lw_t2 (List.mem_of_getElem? (i := 161) rfl), lw_t2 (List.mem_of_getElem? (i := 208) rfl), lw_t2 (List.mem_of_getElem? (i := 209) rfl)⟩
theorem lw_p11 : lw_okq (⟨"SpoonScales$Reader", "isLetter", "()Z"⟩, 10) := ⟨⟨by decide +kernel, by decide +kernel⟩, lw_t2 (List.mem_of_getElem? (i := 161) rfl), lw_t2 (List.mem_of_getElem? (i := 212) rfl), lw_t2 (List.mem_of_getElem? (i := 213) rfl)⟩
theorem lw_p12 : lw_okq (⟨"SpoonScales$Reader", "word", "()V"⟩, 10) := ⟨⟨by decide +kernel, by decide +kernel⟩, lw_t2 (List.mem_of_getElem? (i := 161) rfl), lw_t2 (List.mem_of_getElem? (i := 217) rfl), lw_t2 (List.mem_of_getElem? (i := 218) rfl)⟩
theorem lw_p13 : lw_okq (⟨"SpoonScales$Reader", "wordOf", "([Ljava/lang/String;)I"⟩, 10) := ⟨⟨by decide +kernel, by decide +kernel⟩, lw_t2 (List.mem_of_getElem? (i := 161) rfl), lw_t2 (List.mem_of_getElem? (i := 223) rfl), lw_t2 (List.mem_of_getElem? (i := 224) rfl)⟩
theorem lw_p14 : lw_okq (⟨"SpoonScales$Reader", "isDigit", "()Z"⟩, 10) := ⟨⟨by decide +kernel, by decide +kernel⟩, lw_t2 (List.mem_of_getElem? (i := 161) rfl), lw_t3 (List.mem_of_getElem? (i := 37) rfl), lw_t3 (List.mem_of_getElem? (i := 38) rfl)⟩
theorem lw_p15 : lw_okq (⟨"SpoonScales$Reader", "wrong", "(I)LSpoonScales$Wrong;"⟩, 10) := ⟨⟨by decide +kernel, by decide +kernel⟩, lw_t2 (List.mem_of_getElem? (i := 161) rfl), lw_t3 (List.mem_of_getElem? (i := 46) rfl), lw_t3 (List.mem_of_getElem? (i := 47) rfl)⟩
def lw_privs_1 : List (MethodName × Nat) := [(⟨"SpoonScales", "isEater", "(I)Z"⟩, 14), (⟨"SpoonScales", "spoonOf", "([III)I"⟩, 14), (⟨"SpoonScales", "name", "([II)V"⟩, 14), (⟨"SpoonScales", "told", "(III)I"⟩, 14), (⟨"SpoonScales", "law", "()LSpoonScales$Law;"⟩, 14), (⟨"SpoonScales", "holds", "([II)I"⟩, 14), (⟨"SpoonScales", "eat", "([III)I"⟩, 14), (⟨"SpoonScales", "isGuilty", "([II)Z"⟩, 14), (⟨"SpoonScales", "four", "(I)V"⟩, 14), (⟨"SpoonScales$Reader", "next", "()V"⟩, 10), (⟨"SpoonScales$Reader", "see", "()I"⟩, 10), (⟨"SpoonScales$Reader", "isLetter", "()Z"⟩, 10), (⟨"SpoonScales$Reader", "word", "()V"⟩, 10), (⟨"SpoonScales$Reader", "wordOf", "([Ljava/lang/String;)I"⟩, 10), (⟨"SpoonScales$Reader", "isDigit", "()Z"⟩, 10), (⟨"SpoonScales$Reader", "wrong", "(I)LSpoonScales$Wrong;"⟩, 10)]
theorem lw_r1 : ∀ q ∈ lw_privs_1, lw_okq q := List.forall_mem_cons.mpr ⟨lw_p0, List.forall_mem_cons.mpr ⟨lw_p1, List.forall_mem_cons.mpr ⟨lw_p2, List.forall_mem_cons.mpr ⟨lw_p3, List.forall_mem_cons.mpr ⟨lw_p4, List.forall_mem_cons.mpr ⟨lw_p5, List.forall_mem_cons.mpr ⟨lw_p6, List.forall_mem_cons.mpr ⟨lw_p7, List.forall_mem_cons.mpr ⟨lw_p8, List.forall_mem_cons.mpr ⟨lw_p9, List.forall_mem_cons.mpr ⟨lw_p10, List.forall_mem_cons.mpr ⟨lw_p11, List.forall_mem_cons.mpr ⟨lw_p12, List.forall_mem_cons.mpr ⟨lw_p13, List.forall_mem_cons.mpr ⟨lw_p14, List.forall_mem_cons.mpr ⟨lw_p15, fun _ h => absurd h List.not_mem_nil⟩⟩⟩⟩⟩⟩⟩⟩⟩⟩⟩⟩⟩⟩⟩⟩
theorem lw_p16 : lw_okq (⟨"java/lang/Throwable", "fillInStackTrace", "(I)Ljava/lang/Throwable;"⟩, 6) := ⟨⟨by decide +kernel, by decide +kernel⟩, lw_t3 (List.mem_of_getElem? (i := 86) rfl), lw_t3 (List.mem_of_getElem? (i := 84) rfl), lw_t3 (List.mem_of_getElem? (i := 85) rfl)⟩
theorem lw_p17 : lw_okq (⟨"SpoonScales$Reader", "sum", "()LSpoonScales$Sum;"⟩, 10) := ⟨⟨by decide +kernel, by decide +kernel⟩, lw_t2 (List.mem_of_getElem? (i := 161) rfl), lw_t3 (List.mem_of_getElem? (i := 122) rfl), lw_t3 (List.mem_of_getElem? (i := 123) rfl)⟩
theorem lw_p18 : lw_okq (⟨"SpoonScales$Reader", "product", "()LSpoonScales$Sum;"⟩, 10) := ⟨⟨by decide +kernel, by decide +kernel⟩, lw_t2 (List.mem_of_getElem? (i := 161) rfl), lw_t3 (List.mem_of_getElem? (i := 126) rfl), lw_t3 (List.mem_of_getElem? (i := 127) rfl)⟩
theorem lw_p19 : lw_okq (⟨"SpoonScales$Reader", "one", "()LSpoonScales$Sum;"⟩, 10) := ⟨⟨by decide +kernel, by decide +kernel⟩, lw_t2 (List.mem_of_getElem? (i := 161) rfl), lw_t3 (List.mem_of_getElem? (i := 130) rfl), lw_t3 (List.mem_of_getElem? (i := 131) rfl)⟩
theorem lw_p20 : lw_okq (⟨"SpoonScales$Reader", "isOf", "(I)Z"⟩, 10) := ⟨⟨by decide +kernel, by decide +kernel⟩, lw_t2 (List.mem_of_getElem? (i := 161) rfl), lw_t3 (List.mem_of_getElem? (i := 134) rfl), lw_t3 (List.mem_of_getElem? (i := 135) rfl)⟩
theorem lw_p21 : lw_okq (⟨"SpoonScales$Reader", "number", "(II)I"⟩, 10) := ⟨⟨by decide +kernel, by decide +kernel⟩, lw_t2 (List.mem_of_getElem? (i := 161) rfl), lw_t3 (List.mem_of_getElem? (i := 150) rfl), lw_t3 (List.mem_of_getElem? (i := 151) rfl)⟩
theorem lw_p22 : lw_okq (⟨"SpoonScales$Reader", "opens", "()V"⟩, 10) := ⟨⟨by decide +kernel, by decide +kernel⟩, lw_t2 (List.mem_of_getElem? (i := 161) rfl), lw_t3 (List.mem_of_getElem? (i := 162) rfl), lw_t3 (List.mem_of_getElem? (i := 163) rfl)⟩
theorem lw_p23 : lw_okq (⟨"SpoonScales$Reader", "need", "(I)V"⟩, 10) := ⟨⟨by decide +kernel, by decide +kernel⟩, lw_t2 (List.mem_of_getElem? (i := 161) rfl), lw_t3 (List.mem_of_getElem? (i := 166) rfl), lw_t3 (List.mem_of_getElem? (i := 167) rfl)⟩
theorem lw_p24 : lw_okq (⟨"SpoonScales$Reader", "either", "()LSpoonScales$Ask;"⟩, 10) := ⟨⟨by decide +kernel, by decide +kernel⟩, lw_t2 (List.mem_of_getElem? (i := 161) rfl), lw_t3 (List.mem_of_getElem? (i := 195) rfl), lw_t3 (List.mem_of_getElem? (i := 196) rfl)⟩
theorem lw_p25 : lw_okq (⟨"SpoonScales$Reader", "both", "()LSpoonScales$Ask;"⟩, 10) := ⟨⟨by decide +kernel, by decide +kernel⟩, lw_t2 (List.mem_of_getElem? (i := 161) rfl), lw_t3 (List.mem_of_getElem? (i := 199) rfl), lw_t3 (List.mem_of_getElem? (i := 200) rfl)⟩
theorem lw_p26 : lw_okq (⟨"SpoonScales$Reader", "ask", "()LSpoonScales$Ask;"⟩, 10) := ⟨⟨by decide +kernel, by decide +kernel⟩, lw_t2 (List.mem_of_getElem? (i := 161) rfl), lw_t3 (List.mem_of_getElem? (i := 203) rfl), lw_t3 (List.mem_of_getElem? (i := 204) rfl)⟩
theorem lw_p27 : lw_okq (⟨"SpoonScales$Reader", "isCompare", "()Z"⟩, 10) := ⟨⟨by decide +kernel, by decide +kernel⟩, lw_t2 (List.mem_of_getElem? (i := 161) rfl), lw_t3 (List.mem_of_getElem? (i := 217) rfl), lw_t3 (List.mem_of_getElem? (i := 218) rfl)⟩
theorem lw_p28 : lw_okq (⟨"SpoonScales$Reader", "line", "()LSpoonScales$Line;"⟩, 10) := ⟨⟨by decide +kernel, by decide +kernel⟩, lw_t2 (List.mem_of_getElem? (i := 161) rfl), lw_t4 (List.mem_of_getElem? (i := 13) rfl), lw_t4 (List.mem_of_getElem? (i := 14) rfl)⟩
theorem lw_p29 : lw_okq (⟨"SpoonScales", "canCall", "(I)Z"⟩, 14) := ⟨⟨by decide +kernel, by decide +kernel⟩, lw_t1 (List.mem_of_getElem? (i := 32) rfl), lw_t4 (List.mem_of_getElem? (i := 123) rfl), lw_t4 (List.mem_of_getElem? (i := 124) rfl)⟩
theorem lw_p30 : lw_okq (⟨"SpoonScales", "calls", "(III)V"⟩, 14) := ⟨⟨by decide +kernel, by decide +kernel⟩, lw_t1 (List.mem_of_getElem? (i := 32) rfl), lw_t4 (List.mem_of_getElem? (i := 135) rfl), lw_t4 (List.mem_of_getElem? (i := 136) rfl)⟩
theorem lw_p31 : lw_okq (⟨"SpoonScales", "acquits", "(IIII)V"⟩, 14) := ⟨⟨by decide +kernel, by decide +kernel⟩, lw_t1 (List.mem_of_getElem? (i := 32) rfl), lw_t4 (List.mem_of_getElem? (i := 146) rfl), lw_t4 (List.mem_of_getElem? (i := 147) rfl)⟩
def lw_privs_2 : List (MethodName × Nat) := [(⟨"java/lang/Throwable", "fillInStackTrace", "(I)Ljava/lang/Throwable;"⟩, 6), (⟨"SpoonScales$Reader", "sum", "()LSpoonScales$Sum;"⟩, 10), (⟨"SpoonScales$Reader", "product", "()LSpoonScales$Sum;"⟩, 10), (⟨"SpoonScales$Reader", "one", "()LSpoonScales$Sum;"⟩, 10), (⟨"SpoonScales$Reader", "isOf", "(I)Z"⟩, 10), (⟨"SpoonScales$Reader", "number", "(II)I"⟩, 10), (⟨"SpoonScales$Reader", "opens", "()V"⟩, 10), (⟨"SpoonScales$Reader", "need", "(I)V"⟩, 10), (⟨"SpoonScales$Reader", "either", "()LSpoonScales$Ask;"⟩, 10), (⟨"SpoonScales$Reader", "both", "()LSpoonScales$Ask;"⟩, 10), (⟨"SpoonScales$Reader", "ask", "()LSpoonScales$Ask;"⟩, 10), (⟨"SpoonScales$Reader", "isCompare", "()Z"⟩, 10), (⟨"SpoonScales$Reader", "line", "()LSpoonScales$Line;"⟩, 10), (⟨"SpoonScales", "canCall", "(I)Z"⟩, 14), (⟨"SpoonScales", "calls", "(III)V"⟩, 14), (⟨"SpoonScales", "acquits", "(IIII)V"⟩, 14)]
theorem lw_r2 : ∀ q ∈ lw_privs_2, lw_okq q := List.forall_mem_cons.mpr ⟨lw_p16, List.forall_mem_cons.mpr ⟨lw_p17, List.forall_mem_cons.mpr ⟨lw_p18, List.forall_mem_cons.mpr ⟨lw_p19, List.forall_mem_cons.mpr ⟨lw_p20, List.forall_mem_cons.mpr ⟨lw_p21, List.forall_mem_cons.mpr ⟨lw_p22, List.forall_mem_cons.mpr ⟨lw_p23, List.forall_mem_cons.mpr ⟨lw_p24, List.forall_mem_cons.mpr ⟨lw_p25, List.forall_mem_cons.mpr ⟨lw_p26, List.forall_mem_cons.mpr ⟨lw_p27, List.forall_mem_cons.mpr ⟨lw_p28, List.forall_mem_cons.mpr ⟨lw_p29, List.forall_mem_cons.mpr ⟨lw_p30, List.forall_mem_cons.mpr ⟨lw_p31, fun _ h => absurd h List.not_mem_nil⟩⟩⟩⟩⟩⟩⟩⟩⟩⟩⟩⟩⟩⟩⟩⟩
theorem lw_p32 : lw_okq (⟨"SpoonScales", "leaves", "(IIII)Z"⟩, 14) := ⟨⟨by decide +kernel, by decide +kernel⟩, lw_t1 (List.mem_of_getElem? (i := 32) rfl), lw_t4 (List.mem_of_getElem? (i := 154) rfl), lw_t4 (List.mem_of_getElem? (i := 155) rfl)⟩
theorem lw_p33 : lw_okq (⟨"SpoonScales", "isFit", "(I)Z"⟩, 14) := ⟨⟨by decide +kernel, by decide +kernel⟩, lw_t1 (List.mem_of_getElem? (i := 32) rfl), lw_t4 (List.mem_of_getElem? (i := 166) rfl), lw_t4 (List.mem_of_getElem? (i := 167) rfl)⟩
theorem lw_p34 : lw_okq (⟨"SpoonScales", "unlike", "(I)I"⟩, 14) := ⟨⟨by decide +kernel, by decide +kernel⟩, lw_t1 (List.mem_of_getElem? (i := 32) rfl), lw_t4 (List.mem_of_getElem? (i := 220) rfl), lw_t4 (List.mem_of_getElem? (i := 221) rfl)⟩
theorem lw_p35 : lw_okq (⟨"SpoonScalesModel", "copies", "(Z)V"⟩, 48) := ⟨⟨by decide +kernel, by decide +kernel⟩, lw_t5 (List.mem_of_getElem? (i := 7) rfl), lw_t5 (List.mem_of_getElem? (i := 13) rfl), lw_t5 (List.mem_of_getElem? (i := 14) rfl)⟩
theorem lw_p36 : lw_okq (⟨"SpoonScalesModel", "put", "(I)V"⟩, 48) := ⟨⟨by decide +kernel, by decide +kernel⟩, lw_t5 (List.mem_of_getElem? (i := 7) rfl), lw_t5 (List.mem_of_getElem? (i := 189) rfl), lw_t5 (List.mem_of_getElem? (i := 190) rfl)⟩
theorem lw_p37 : lw_okq (⟨"SpoonScalesModel", "nextToken", "()V"⟩, 48) := ⟨⟨by decide +kernel, by decide +kernel⟩, lw_t5 (List.mem_of_getElem? (i := 7) rfl), lw_t5 (List.mem_of_getElem? (i := 201) rfl), lw_t5 (List.mem_of_getElem? (i := 202) rfl)⟩
theorem lw_p38 : lw_okq (⟨"SpoonScalesModel", "asks", "()V"⟩, 48) := ⟨⟨by decide +kernel, by decide +kernel⟩, lw_t5 (List.mem_of_getElem? (i := 7) rfl), lw_t5 (List.mem_of_getElem? (i := 237) rfl), lw_t5 (List.mem_of_getElem? (i := 238) rfl)⟩
theorem lw_p39 : lw_okq (⟨"SpoonScalesModel", "isWord", "(I)Z"⟩, 48) := ⟨⟨by decide +kernel, by decide +kernel⟩, lw_t5 (List.mem_of_getElem? (i := 7) rfl), lw_t6 (List.mem_of_getElem? (i := 1) rfl), lw_t6 (List.mem_of_getElem? (i := 2) rfl)⟩
theorem lw_p40 : lw_okq (⟨"SpoonScalesModel", "opensSign", "(I)Z"⟩, 48) := ⟨⟨by decide +kernel, by decide +kernel⟩, lw_t5 (List.mem_of_getElem? (i := 7) rfl), lw_t6 (List.mem_of_getElem? (i := 5) rfl), lw_t6 (List.mem_of_getElem? (i := 6) rfl)⟩
theorem lw_p41 : lw_okq (⟨"SpoonScalesModel", "errs", "(I)V"⟩, 48) := ⟨⟨by decide +kernel, by decide +kernel⟩, lw_t5 (List.mem_of_getElem? (i := 7) rfl), lw_t6 (List.mem_of_getElem? (i := 9) rfl), lw_t6 (List.mem_of_getElem? (i := 10) rfl)⟩
theorem lw_p42 : lw_okq (⟨"SpoonScalesModel", "opensFrame", "(I)V"⟩, 48) := ⟨⟨by decide +kernel, by decide +kernel⟩, lw_t5 (List.mem_of_getElem? (i := 7) rfl), lw_t6 (List.mem_of_getElem? (i := 13) rfl), lw_t6 (List.mem_of_getElem? (i := 14) rfl)⟩
theorem lw_p43 : lw_okq (⟨"SpoonScalesModel", "begins", "()V"⟩, 48) := ⟨⟨by decide +kernel, by decide +kernel⟩, lw_t5 (List.mem_of_getElem? (i := 7) rfl), lw_t6 (List.mem_of_getElem? (i := 17) rfl), lw_t6 (List.mem_of_getElem? (i := 18) rfl)⟩
theorem lw_p44 : lw_okq (⟨"SpoonScalesModel", "emits", "(II)V"⟩, 48) := ⟨⟨by decide +kernel, by decide +kernel⟩, lw_t5 (List.mem_of_getElem? (i := 7) rfl), lw_t6 (List.mem_of_getElem? (i := 21) rfl), lw_t6 (List.mem_of_getElem? (i := 22) rfl)⟩
theorem lw_p45 : lw_okq (⟨"SpoonScalesModel", "oneIsOver", "()V"⟩, 48) := ⟨⟨by decide +kernel, by decide +kernel⟩, lw_t5 (List.mem_of_getElem? (i := 7) rfl), lw_t6 (List.mem_of_getElem? (i := 25) rfl), lw_t6 (List.mem_of_getElem? (i := 26) rfl)⟩
theorem lw_p46 : lw_okq (⟨"SpoonScalesModel", "top", "()I"⟩, 48) := ⟨⟨by decide +kernel, by decide +kernel⟩, lw_t5 (List.mem_of_getElem? (i := 7) rfl), lw_t6 (List.mem_of_getElem? (i := 29) rfl), lw_t6 (List.mem_of_getElem? (i := 30) rfl)⟩
theorem lw_p47 : lw_okq (⟨"SpoonScalesModel", "isSign", "(I)Z"⟩, 48) := ⟨⟨by decide +kernel, by decide +kernel⟩, lw_t5 (List.mem_of_getElem? (i := 7) rfl), lw_t6 (List.mem_of_getElem? (i := 36) rfl), lw_t6 (List.mem_of_getElem? (i := 37) rfl)⟩
def lw_privs_3 : List (MethodName × Nat) := [(⟨"SpoonScales", "leaves", "(IIII)Z"⟩, 14), (⟨"SpoonScales", "isFit", "(I)Z"⟩, 14), (⟨"SpoonScales", "unlike", "(I)I"⟩, 14), (⟨"SpoonScalesModel", "copies", "(Z)V"⟩, 48), (⟨"SpoonScalesModel", "put", "(I)V"⟩, 48), (⟨"SpoonScalesModel", "nextToken", "()V"⟩, 48), (⟨"SpoonScalesModel", "asks", "()V"⟩, 48), (⟨"SpoonScalesModel", "isWord", "(I)Z"⟩, 48), (⟨"SpoonScalesModel", "opensSign", "(I)Z"⟩, 48), (⟨"SpoonScalesModel", "errs", "(I)V"⟩, 48), (⟨"SpoonScalesModel", "opensFrame", "(I)V"⟩, 48), (⟨"SpoonScalesModel", "begins", "()V"⟩, 48), (⟨"SpoonScalesModel", "emits", "(II)V"⟩, 48), (⟨"SpoonScalesModel", "oneIsOver", "()V"⟩, 48), (⟨"SpoonScalesModel", "top", "()I"⟩, 48), (⟨"SpoonScalesModel", "isSign", "(I)Z"⟩, 48)]
theorem lw_r3 : ∀ q ∈ lw_privs_3, lw_okq q := List.forall_mem_cons.mpr ⟨lw_p32, List.forall_mem_cons.mpr ⟨lw_p33, List.forall_mem_cons.mpr ⟨lw_p34, List.forall_mem_cons.mpr ⟨lw_p35, List.forall_mem_cons.mpr ⟨lw_p36, List.forall_mem_cons.mpr ⟨lw_p37, List.forall_mem_cons.mpr ⟨lw_p38, List.forall_mem_cons.mpr ⟨lw_p39, List.forall_mem_cons.mpr ⟨lw_p40, List.forall_mem_cons.mpr ⟨lw_p41, List.forall_mem_cons.mpr ⟨lw_p42, List.forall_mem_cons.mpr ⟨lw_p43, List.forall_mem_cons.mpr ⟨lw_p44, List.forall_mem_cons.mpr ⟨lw_p45, List.forall_mem_cons.mpr ⟨lw_p46, List.forall_mem_cons.mpr ⟨lw_p47, fun _ h => absurd h List.not_mem_nil⟩⟩⟩⟩⟩⟩⟩⟩⟩⟩⟩⟩⟩⟩⟩⟩
theorem lw_p48 : lw_okq (⟨"SpoonScalesModel", "goesOn", "()V"⟩, 48) := ⟨⟨by decide +kernel, by decide +kernel⟩, lw_t5 (List.mem_of_getElem? (i := 7) rfl), lw_t6 (List.mem_of_getElem? (i := 40) rfl), lw_t6 (List.mem_of_getElem? (i := 41) rfl)⟩
theorem lw_p49 : lw_okq (⟨"SpoonScalesModel", "waitsFor", "(I)V"⟩, 48) := ⟨⟨by decide +kernel, by decide +kernel⟩, lw_t5 (List.mem_of_getElem? (i := 7) rfl), lw_t6 (List.mem_of_getElem? (i := 44) rfl), lw_t6 (List.mem_of_getElem? (i := 45) rfl)⟩
theorem lw_p50 : lw_okq (⟨"SpoonScalesModel", "works", "(I)V"⟩, 48) := ⟨⟨by decide +kernel, by decide +kernel⟩, lw_t5 (List.mem_of_getElem? (i := 7) rfl), lw_t6 (List.mem_of_getElem? (i := 51) rfl), lw_t6 (List.mem_of_getElem? (i := 52) rfl)⟩
theorem lw_p51 : lw_okq (⟨"SpoonScalesModel", "askIsOver", "()V"⟩, 48) := ⟨⟨by decide +kernel, by decide +kernel⟩, lw_t5 (List.mem_of_getElem? (i := 7) rfl), lw_t6 (List.mem_of_getElem? (i := 58) rfl), lw_t6 (List.mem_of_getElem? (i := 59) rfl)⟩
theorem lw_p52 : lw_okq (⟨"SpoonScalesModel", "clauseIsOver", "()V"⟩, 48) := ⟨⟨by decide +kernel, by decide +kernel⟩, lw_t5 (List.mem_of_getElem? (i := 7) rfl), lw_t6 (List.mem_of_getElem? (i := 62) rfl), lw_t6 (List.mem_of_getElem? (i := 63) rfl)⟩
theorem lw_p53 : lw_okq (⟨"SpoonScalesModel", "asksOn", "()V"⟩, 48) := ⟨⟨by decide +kernel, by decide +kernel⟩, lw_t5 (List.mem_of_getElem? (i := 7) rfl), lw_t6 (List.mem_of_getElem? (i := 66) rfl), lw_t6 (List.mem_of_getElem? (i := 67) rfl)⟩
theorem lw_p54 : lw_okq (⟨"SpoonScalesModel", "clause", "()V"⟩, 48) := ⟨⟨by decide +kernel, by decide +kernel⟩, lw_t5 (List.mem_of_getElem? (i := 7) rfl), lw_t6 (List.mem_of_getElem? (i := 70) rfl), lw_t6 (List.mem_of_getElem? (i := 71) rfl)⟩
theorem lw_p55 : lw_okq (⟨"SpoonScalesModel", "wasTold", "(I)Z"⟩, 48) := ⟨⟨by decide +kernel, by decide +kernel⟩, lw_t5 (List.mem_of_getElem? (i := 7) rfl), lw_t6 (List.mem_of_getElem? (i := 74) rfl), lw_t6 (List.mem_of_getElem? (i := 75) rfl)⟩
theorem lw_p56 : lw_okq (⟨"SpoonScalesModel", "number", "(II)I"⟩, 48) := ⟨⟨by decide +kernel, by decide +kernel⟩, lw_t5 (List.mem_of_getElem? (i := 7) rfl), lw_t6 (List.mem_of_getElem? (i := 78) rfl), lw_t6 (List.mem_of_getElem? (i := 79) rfl)⟩
theorem lw_p57 : lw_okq (⟨"SpoonScalesModel", "wants", "(I)V"⟩, 48) := ⟨⟨by decide +kernel, by decide +kernel⟩, lw_t5 (List.mem_of_getElem? (i := 7) rfl), lw_t6 (List.mem_of_getElem? (i := 82) rfl), lw_t6 (List.mem_of_getElem? (i := 83) rfl)⟩
theorem lw_p58 : lw_okq (⟨"SpoonScalesModel", "isEater", "(I)Z"⟩, 48) := ⟨⟨by decide +kernel, by decide +kernel⟩, lw_t5 (List.mem_of_getElem? (i := 7) rfl), lw_t6 (List.mem_of_getElem? (i := 98) rfl), lw_t6 (List.mem_of_getElem? (i := 99) rfl)⟩
theorem lw_p59 : lw_okq (⟨"SpoonScalesModel", "keepsStep", "()V"⟩, 48) := ⟨⟨by decide +kernel, by decide +kernel⟩, lw_t5 (List.mem_of_getElem? (i := 7) rfl), lw_t6 (List.mem_of_getElem? (i := 102) rfl), lw_t6 (List.mem_of_getElem? (i := 103) rfl)⟩
theorem lw_p60 : lw_okq (⟨"SpoonScalesModel", "laysWorld", "()V"⟩, 48) := ⟨⟨by decide +kernel, by decide +kernel⟩, lw_t5 (List.mem_of_getElem? (i := 7) rfl), lw_t6 (List.mem_of_getElem? (i := 110) rfl), lw_t6 (List.mem_of_getElem? (i := 111) rfl)⟩
theorem lw_p61 : lw_okq (⟨"SpoonScalesModel", "spoonOf", "(II)I"⟩, 48) := ⟨⟨by decide +kernel, by decide +kernel⟩, lw_t5 (List.mem_of_getElem? (i := 7) rfl), lw_t6 (List.mem_of_getElem? (i := 114) rfl), lw_t6 (List.mem_of_getElem? (i := 115) rfl)⟩
theorem lw_p62 : lw_okq (⟨"SpoonScalesModel", "stillHolds", "(I)I"⟩, 48) := ⟨⟨by decide +kernel, by decide +kernel⟩, lw_t5 (List.mem_of_getElem? (i := 7) rfl), lw_t6 (List.mem_of_getElem? (i := 118) rfl), lw_t6 (List.mem_of_getElem? (i := 119) rfl)⟩
theorem lw_p63 : lw_okq (⟨"SpoonScalesModel", "ordersOf", "(I)I"⟩, 48) := ⟨⟨by decide +kernel, by decide +kernel⟩, lw_t5 (List.mem_of_getElem? (i := 7) rfl), lw_t6 (List.mem_of_getElem? (i := 122) rfl), lw_t6 (List.mem_of_getElem? (i := 123) rfl)⟩
def lw_privs_4 : List (MethodName × Nat) := [(⟨"SpoonScalesModel", "goesOn", "()V"⟩, 48), (⟨"SpoonScalesModel", "waitsFor", "(I)V"⟩, 48), (⟨"SpoonScalesModel", "works", "(I)V"⟩, 48), (⟨"SpoonScalesModel", "askIsOver", "()V"⟩, 48), (⟨"SpoonScalesModel", "clauseIsOver", "()V"⟩, 48), (⟨"SpoonScalesModel", "asksOn", "()V"⟩, 48), (⟨"SpoonScalesModel", "clause", "()V"⟩, 48), (⟨"SpoonScalesModel", "wasTold", "(I)Z"⟩, 48), (⟨"SpoonScalesModel", "number", "(II)I"⟩, 48), (⟨"SpoonScalesModel", "wants", "(I)V"⟩, 48), (⟨"SpoonScalesModel", "isEater", "(I)Z"⟩, 48), (⟨"SpoonScalesModel", "keepsStep", "()V"⟩, 48), (⟨"SpoonScalesModel", "laysWorld", "()V"⟩, 48), (⟨"SpoonScalesModel", "spoonOf", "(II)I"⟩, 48), (⟨"SpoonScalesModel", "stillHolds", "(I)I"⟩, 48), (⟨"SpoonScalesModel", "ordersOf", "(I)I"⟩, 48)]
theorem lw_r4 : ∀ q ∈ lw_privs_4, lw_okq q := List.forall_mem_cons.mpr ⟨lw_p48, List.forall_mem_cons.mpr ⟨lw_p49, List.forall_mem_cons.mpr ⟨lw_p50, List.forall_mem_cons.mpr ⟨lw_p51, List.forall_mem_cons.mpr ⟨lw_p52, List.forall_mem_cons.mpr ⟨lw_p53, List.forall_mem_cons.mpr ⟨lw_p54, List.forall_mem_cons.mpr ⟨lw_p55, List.forall_mem_cons.mpr ⟨lw_p56, List.forall_mem_cons.mpr ⟨lw_p57, List.forall_mem_cons.mpr ⟨lw_p58, List.forall_mem_cons.mpr ⟨lw_p59, List.forall_mem_cons.mpr ⟨lw_p60, List.forall_mem_cons.mpr ⟨lw_p61, List.forall_mem_cons.mpr ⟨lw_p62, List.forall_mem_cons.mpr ⟨lw_p63, fun _ h => absurd h List.not_mem_nil⟩⟩⟩⟩⟩⟩⟩⟩⟩⟩⟩⟩⟩⟩⟩⟩
theorem lw_p64 : lw_okq (⟨"SpoonScalesModel", "names", "(I)V"⟩, 48) := ⟨⟨by decide +kernel, by decide +kernel⟩, lw_t5 (List.mem_of_getElem? (i := 7) rfl), lw_t6 (List.mem_of_getElem? (i := 126) rfl), lw_t6 (List.mem_of_getElem? (i := 127) rfl)⟩
theorem lw_p65 : lw_okq (⟨"SpoonScalesModel", "saysOf", "(I)J"⟩, 48) := ⟨⟨by decide +kernel, by decide +kernel⟩, lw_t5 (List.mem_of_getElem? (i := 7) rfl), lw_t6 (List.mem_of_getElem? (i := 130) rfl), lw_t6 (List.mem_of_getElem? (i := 131) rfl)⟩
theorem lw_p66 : lw_okq (⟨"SpoonScalesModel", "isGuilty", "(I)Z"⟩, 48) := ⟨⟨by decide +kernel, by decide +kernel⟩, lw_t5 (List.mem_of_getElem? (i := 7) rfl), lw_t6 (List.mem_of_getElem? (i := 152) rfl), lw_t6 (List.mem_of_getElem? (i := 153) rfl)⟩
theorem lw_p67 : lw_okq (⟨"SpoonScalesModel", "tilt", "()I"⟩, 48) := ⟨⟨by decide +kernel, by decide +kernel⟩, lw_t5 (List.mem_of_getElem? (i := 7) rfl), lw_t6 (List.mem_of_getElem? (i := 156) rfl), lw_t6 (List.mem_of_getElem? (i := 157) rfl)⟩
theorem lw_p68 : lw_okq (⟨"SpoonScalesModel", "draw", "(I)I"⟩, 48) := ⟨⟨by decide +kernel, by decide +kernel⟩, lw_t5 (List.mem_of_getElem? (i := 7) rfl), lw_t6 (List.mem_of_getElem? (i := 164) rfl), lw_t6 (List.mem_of_getElem? (i := 165) rfl)⟩
theorem lw_p69 : lw_okq (⟨"SpoonScalesModel", "laysOrder", "(II)V"⟩, 48) := ⟨⟨by decide +kernel, by decide +kernel⟩, lw_t5 (List.mem_of_getElem? (i := 7) rfl), lw_t6 (List.mem_of_getElem? (i := 195) rfl), lw_t6 (List.mem_of_getElem? (i := 196) rfl)⟩
theorem lw_p70 : lw_okq (⟨"SpoonScalesModel", "eats", "(II)I"⟩, 48) := ⟨⟨by decide +kernel, by decide +kernel⟩, lw_t5 (List.mem_of_getElem? (i := 7) rfl), lw_t6 (List.mem_of_getElem? (i := 199) rfl), lw_t6 (List.mem_of_getElem? (i := 200) rfl)⟩
theorem lw_p71 : lw_okq (⟨"SpoonScalesModel", "acquits", "(II)Z"⟩, 48) := ⟨⟨by decide +kernel, by decide +kernel⟩, lw_t5 (List.mem_of_getElem? (i := 7) rfl), lw_t6 (List.mem_of_getElem? (i := 210) rfl), lw_t6 (List.mem_of_getElem? (i := 211) rfl)⟩
theorem lw_p72 : lw_okq (⟨"SpoonScalesModel", "toldMore", "(I)I"⟩, 48) := ⟨⟨by decide +kernel, by decide +kernel⟩, lw_t5 (List.mem_of_getElem? (i := 7) rfl), lw_t7 (List.mem_of_getElem? (i := 21) rfl), lw_t7 (List.mem_of_getElem? (i := 22) rfl)⟩
def lw_privs_5 : List (MethodName × Nat) := [(⟨"SpoonScalesModel", "names", "(I)V"⟩, 48), (⟨"SpoonScalesModel", "saysOf", "(I)J"⟩, 48), (⟨"SpoonScalesModel", "isGuilty", "(I)Z"⟩, 48), (⟨"SpoonScalesModel", "tilt", "()I"⟩, 48), (⟨"SpoonScalesModel", "draw", "(I)I"⟩, 48), (⟨"SpoonScalesModel", "laysOrder", "(II)V"⟩, 48), (⟨"SpoonScalesModel", "eats", "(II)I"⟩, 48), (⟨"SpoonScalesModel", "acquits", "(II)Z"⟩, 48), (⟨"SpoonScalesModel", "toldMore", "(I)I"⟩, 48)]
theorem lw_r5 : ∀ q ∈ lw_privs_5, lw_okq q := List.forall_mem_cons.mpr ⟨lw_p64, List.forall_mem_cons.mpr ⟨lw_p65, List.forall_mem_cons.mpr ⟨lw_p66, List.forall_mem_cons.mpr ⟨lw_p67, List.forall_mem_cons.mpr ⟨lw_p68, List.forall_mem_cons.mpr ⟨lw_p69, List.forall_mem_cons.mpr ⟨lw_p70, List.forall_mem_cons.mpr ⟨lw_p71, List.forall_mem_cons.mpr ⟨lw_p72, fun _ h => absurd h List.not_mem_nil⟩⟩⟩⟩⟩⟩⟩⟩⟩
def lw_privs : List (MethodName × Nat) := lw_privs_1 ++ (lw_privs_2 ++ (lw_privs_3 ++ (lw_privs_4 ++ (lw_privs_5))))
def lw_tbl : List Cond := k2_sels lw_privs ++ tables_1
theorem lw_privs_ok : ∀ q ∈ lw_privs, lw_okq q := by
  show ∀ q ∈ lw_privs_1 ++ (lw_privs_2 ++ (lw_privs_3 ++ (lw_privs_4 ++ (lw_privs_5)))), lw_okq q
  exact List.forall_mem_append.mpr ⟨lw_r1, List.forall_mem_append.mpr ⟨lw_r2, List.forall_mem_append.mpr ⟨lw_r3, List.forall_mem_append.mpr ⟨lw_r4, lw_r5⟩⟩⟩⟩
-- ===== ONE list of words for every method: the tables' words that hold all through a run =====
def lw_all : List Cond := lw_tbl.filter goodWord
/-- a word of the tables by its place: claim/WORDS.tsv -/
theorem lw_w {w : Cond} (i : Nat) (h : lw_tbl[i]? = some w) (g : goodWord w = true) : w ∈ lw_all := List.mem_filter.mpr ⟨List.mem_of_getElem? h, g⟩
theorem lw_all_tbl {w : Cond} (h : w ∈ lw_all) : w ∈ lw_tbl := (List.mem_filter.mp h).1
theorem lw_self : GoodIn lw_all lw_all := fun w h => ⟨h, good_of_word (List.mem_filter.mp h).2⟩
/-- a class's field words, by their places -/
theorem lw_in (ws : List Cond) (ps : List Nat) (hp : ws = ps.filterMap (fun i => lw_tbl[i]?)) (hg : ws.all goodWord = true) : ∀ w ∈ ws, w ∈ lw_all := by
  intro w h
  have h1 := List.all_eq_true.mp hg w h
  rw [hp] at h
  obtain ⟨i, -, hi⟩ := List.mem_filterMap.mp h
  exact lw_w i hi h1
/-- the words of a contract for the method y with code b, L locals, answer r -/
abbrev ws_ (y : MethodName) (b : ByteArray) (L : Nat) (r : Option FieldType) : List Cond := Cond.code y b L r :: lw_all
theorem lw_meth {y : MethodName} {b : ByteArray} {L : Nat} {r : Option FieldType} (h : Cond.code y b L r ∈ lw_all) : GoodIn lw_all (ws_ y b L r) := by
  intro w hw
  rcases List.mem_cons.mp hw with e | e
  · rw [e]
    exact lw_self _ h
  · exact lw_self _ e
theorem lw_app {a c : List Cond} (ha : ∀ w ∈ a, w ∈ lw_all) (hc : GoodIn lw_all c) : GoodIn lw_all (a ++ c) := by
  intro w hw
  rcases List.mem_append.mp hw with e | e
  · exact lw_self w (ha w e)
  · exact hc w e
/-- what a call through an object asks: cwV n hts (lw_V ..) -/
theorem lw_V {own : String} {idx : Nat} {C : String} {y : MethodName} {b : ByteArray} {L : Nat} {r : Option FieldType} (h1 : Cond.methodLink own idx y ∈ lw_all) (h2 : Cond.instanceMethod y ∈ lw_all) (h3 : Cond.selects C y y ∈ lw_all) (h4 : Cond.initialized C ∈ lw_all) (h5 : Cond.code y b L r ∈ lw_all) : GoodIn lw_all (wsV own idx C y (ws_ y b L r)) := by
  refine lw_app ?_ (lw_meth h5)
  intro w hw
  simp only [List.mem_cons, List.not_mem_nil, or_false] at hw
  rcases hw with e | e | e | e
  · rw [e]; exact h1
  · rw [e]; exact h2
  · rw [e]; exact h3
  · rw [e]; exact h4
/-- what a static call asks: va_cwS n hts (lw_S ..) -/
theorem lw_S {own : String} {idx : Nat} {y : MethodName} {b : ByteArray} {L : Nat} {r : Option FieldType} (h1 : Cond.methodLink own idx y ∈ lw_all) (h2 : Cond.static y ∈ lw_all) (h3 : Cond.initialized y.cls ∈ lw_all) (h4 : Cond.code y b L r ∈ lw_all) : GoodIn lw_all (va_wsS own idx y (ws_ y b L r)) := by
  refine lw_app ?_ (lw_meth h4)
  intro w hw
  simp only [List.mem_cons, List.not_mem_nil, or_false] at hw
  rcases hw with e | e | e
  · rw [e]; exact h1
  · rw [e]; exact h2
  · rw [e]; exact h3
/-- the words of a contract for a method WITH HANDLERS (hh: its table) -/
abbrev wsW_ (y : MethodName) (b : ByteArray) (L : Nat) (r : Option FieldType) (hh : List (Nat × Nat × Nat × Nat)) : List Cond := Cond.codeWith y b L r hh :: lw_all
theorem lw_methW {y : MethodName} {b : ByteArray} {L : Nat} {r : Option FieldType} {hh : List (Nat × Nat × Nat × Nat)} (h : Cond.codeWith y b L r hh ∈ lw_all) : GoodIn lw_all (wsW_ y b L r hh) := by
  intro w hw
  rcases List.mem_cons.mp hw with e | e
  · rw [e]
    exact lw_self _ h
  · exact lw_self _ e
/-- any list of words by their places (lw_in), good -/
theorem lw_good {ws : List Cond} (h : ∀ w ∈ ws, w ∈ lw_all) : GoodIn lw_all ws := fun w hw => lw_self w (h w hw)
/-- what a call of a method with handlers asks: vx_cwVW n hts (lw_VW ..), vx_cwSW n hts (lw_SW ..) -/
theorem lw_VW {own : String} {idx : Nat} {C : String} {y : MethodName} {b : ByteArray} {L : Nat} {r : Option FieldType} {hh : List (Nat × Nat × Nat × Nat)} (h1 : Cond.methodLink own idx y ∈ lw_all) (h2 : Cond.instanceMethod y ∈ lw_all) (h3 : Cond.selects C y y ∈ lw_all) (h4 : Cond.initialized C ∈ lw_all) (h5 : Cond.codeWith y b L r hh ∈ lw_all) : GoodIn lw_all (wsV own idx C y (wsW_ y b L r hh)) := by
  refine lw_app ?_ (lw_methW h5)
  intro w hw
  simp only [List.mem_cons, List.not_mem_nil, or_false] at hw
  rcases hw with e | e | e | e
  · rw [e]; exact h1
  · rw [e]; exact h2
  · rw [e]; exact h3
  · rw [e]; exact h4
theorem lw_SW {own : String} {idx : Nat} {y : MethodName} {b : ByteArray} {L : Nat} {r : Option FieldType} {hh : List (Nat × Nat × Nat × Nat)} (h1 : Cond.methodLink own idx y ∈ lw_all) (h2 : Cond.static y ∈ lw_all) (h3 : Cond.initialized y.cls ∈ lw_all) (h4 : Cond.codeWith y b L r hh ∈ lw_all) : GoodIn lw_all (va_wsS own idx y (wsW_ y b L r hh)) := by
  refine lw_app ?_ (lw_methW h4)
  intro w hw
  simp only [List.mem_cons, List.not_mem_nil, or_false] at hw
  rcases hw with e | e | e
  · rw [e]; exact h1
  · rw [e]; exact h2
  · rw [e]; exact h3
/-- a word by its place in its run of the tables -/
theorem lw_at {r : List Cond} (hr : ∀ w ∈ r, w ∈ lw_tbl) {w : Cond} (i : Nat) (h : r[i]? = some w) : w ∈ lw_tbl := hr w (List.mem_of_getElem? h)
theorem lw_g {w : Cond} (h : w ∈ lw_tbl) (g : goodWord w = true) : w ∈ lw_all := List.mem_filter.mpr ⟨h, g⟩
theorem lw_ms : ∀ w ∈ k2_sels lw_privs, w ∈ lw_tbl := fun w h => show w ∈ k2_sels lw_privs ++ tables_1 from List.mem_append_left _ h
theorem lw_m1 : ∀ w ∈ tables_1_1, w ∈ lw_tbl := fun w h => show w ∈ k2_sels lw_privs ++ tables_1 from List.mem_append_right (k2_sels lw_privs) (show w ∈ tables_1 from List.mem_append_left _ h)
theorem lw_m2 : ∀ w ∈ tables_1_2, w ∈ lw_tbl := fun w h => show w ∈ k2_sels lw_privs ++ tables_1 from List.mem_append_right (k2_sels lw_privs) (show w ∈ tables_1 from List.mem_append_right _ (List.mem_append_left _ h))
theorem lw_m3 : ∀ w ∈ tables_1_3, w ∈ lw_tbl := fun w h => show w ∈ k2_sels lw_privs ++ tables_1 from List.mem_append_right (k2_sels lw_privs) (show w ∈ tables_1 from List.mem_append_right _ (List.mem_append_right _ (List.mem_append_left _ h)))
theorem lw_m4 : ∀ w ∈ tables_1_4, w ∈ lw_tbl := fun w h => show w ∈ k2_sels lw_privs ++ tables_1 from List.mem_append_right (k2_sels lw_privs) (show w ∈ tables_1 from List.mem_append_right _ (List.mem_append_right _ (List.mem_append_right _ (List.mem_append_left _ h))))
theorem lw_m5 : ∀ w ∈ tables_1_5, w ∈ lw_tbl := fun w h => show w ∈ k2_sels lw_privs ++ tables_1 from List.mem_append_right (k2_sels lw_privs) (show w ∈ tables_1 from List.mem_append_right _ (List.mem_append_right _ (List.mem_append_right _ (List.mem_append_right _ (List.mem_append_left _ h)))))
theorem lw_m6 : ∀ w ∈ tables_1_6, w ∈ lw_tbl := fun w h => show w ∈ k2_sels lw_privs ++ tables_1 from List.mem_append_right (k2_sels lw_privs) (show w ∈ tables_1 from List.mem_append_right _ (List.mem_append_right _ (List.mem_append_right _ (List.mem_append_right _ (List.mem_append_right _ (List.mem_append_left _ h))))))
theorem lw_m7 : ∀ w ∈ tables_1_7, w ∈ lw_tbl := fun w h => show w ∈ k2_sels lw_privs ++ tables_1 from List.mem_append_right (k2_sels lw_privs) (show w ∈ tables_1 from List.mem_append_right _ (List.mem_append_right _ (List.mem_append_right _ (List.mem_append_right _ (List.mem_append_right _ (List.mem_append_right _ h))))))
theorem qs0 : (Cond.selects "SpoonScales" ⟨"SpoonScales", "isEater", "(I)Z"⟩ ⟨"SpoonScales", "isEater", "(I)Z"⟩) ∈ lw_all := lw_g (lw_at lw_ms 0 rfl) rfl
theorem qs1 : (Cond.selects "SpoonScales" ⟨"SpoonScales", "spoonOf", "([III)I"⟩ ⟨"SpoonScales", "spoonOf", "([III)I"⟩) ∈ lw_all := lw_g (lw_at lw_ms 1 rfl) rfl
theorem qs2 : (Cond.selects "SpoonScales" ⟨"SpoonScales", "name", "([II)V"⟩ ⟨"SpoonScales", "name", "([II)V"⟩) ∈ lw_all := lw_g (lw_at lw_ms 2 rfl) rfl
theorem qs3 : (Cond.selects "SpoonScales" ⟨"SpoonScales", "told", "(III)I"⟩ ⟨"SpoonScales", "told", "(III)I"⟩) ∈ lw_all := lw_g (lw_at lw_ms 3 rfl) rfl
theorem qs4 : (Cond.selects "SpoonScales" ⟨"SpoonScales", "law", "()LSpoonScales$Law;"⟩ ⟨"SpoonScales", "law", "()LSpoonScales$Law;"⟩) ∈ lw_all := lw_g (lw_at lw_ms 4 rfl) rfl
theorem qs5 : (Cond.selects "SpoonScales" ⟨"SpoonScales", "holds", "([II)I"⟩ ⟨"SpoonScales", "holds", "([II)I"⟩) ∈ lw_all := lw_g (lw_at lw_ms 5 rfl) rfl
theorem qs6 : (Cond.selects "SpoonScales" ⟨"SpoonScales", "eat", "([III)I"⟩ ⟨"SpoonScales", "eat", "([III)I"⟩) ∈ lw_all := lw_g (lw_at lw_ms 6 rfl) rfl
theorem qs7 : (Cond.selects "SpoonScales" ⟨"SpoonScales", "isGuilty", "([II)Z"⟩ ⟨"SpoonScales", "isGuilty", "([II)Z"⟩) ∈ lw_all := lw_g (lw_at lw_ms 7 rfl) rfl
theorem qs8 : (Cond.selects "SpoonScales" ⟨"SpoonScales", "four", "(I)V"⟩ ⟨"SpoonScales", "four", "(I)V"⟩) ∈ lw_all := lw_g (lw_at lw_ms 8 rfl) rfl
theorem qs9 : (Cond.selects "SpoonScales$Reader" ⟨"SpoonScales$Reader", "next", "()V"⟩ ⟨"SpoonScales$Reader", "next", "()V"⟩) ∈ lw_all := lw_g (lw_at lw_ms 9 rfl) rfl
theorem qs10 : (Cond.selects "SpoonScales$Reader" ⟨"SpoonScales$Reader", "see", "()I"⟩ ⟨"SpoonScales$Reader", "see", "()I"⟩) ∈ lw_all := lw_g (lw_at lw_ms 10 rfl) rfl
theorem qs11 : (Cond.selects "SpoonScales$Reader" ⟨"SpoonScales$Reader", "isLetter", "()Z"⟩ ⟨"SpoonScales$Reader", "isLetter", "()Z"⟩) ∈ lw_all := lw_g (lw_at lw_ms 11 rfl) rfl
theorem qs12 : (Cond.selects "SpoonScales$Reader" ⟨"SpoonScales$Reader", "word", "()V"⟩ ⟨"SpoonScales$Reader", "word", "()V"⟩) ∈ lw_all := lw_g (lw_at lw_ms 12 rfl) rfl
theorem qs13 : (Cond.selects "SpoonScales$Reader" ⟨"SpoonScales$Reader", "wordOf", "([Ljava/lang/String;)I"⟩ ⟨"SpoonScales$Reader", "wordOf", "([Ljava/lang/String;)I"⟩) ∈ lw_all := lw_g (lw_at lw_ms 13 rfl) rfl
theorem qs14 : (Cond.selects "SpoonScales$Reader" ⟨"SpoonScales$Reader", "isDigit", "()Z"⟩ ⟨"SpoonScales$Reader", "isDigit", "()Z"⟩) ∈ lw_all := lw_g (lw_at lw_ms 14 rfl) rfl
theorem qs15 : (Cond.selects "SpoonScales$Reader" ⟨"SpoonScales$Reader", "wrong", "(I)LSpoonScales$Wrong;"⟩ ⟨"SpoonScales$Reader", "wrong", "(I)LSpoonScales$Wrong;"⟩) ∈ lw_all := lw_g (lw_at lw_ms 15 rfl) rfl
theorem qs16 : (Cond.selects "java/lang/Throwable" ⟨"java/lang/Throwable", "fillInStackTrace", "(I)Ljava/lang/Throwable;"⟩ ⟨"java/lang/Throwable", "fillInStackTrace", "(I)Ljava/lang/Throwable;"⟩) ∈ lw_all := lw_g (lw_at lw_ms 16 rfl) rfl
theorem qs17 : (Cond.selects "SpoonScales$Reader" ⟨"SpoonScales$Reader", "sum", "()LSpoonScales$Sum;"⟩ ⟨"SpoonScales$Reader", "sum", "()LSpoonScales$Sum;"⟩) ∈ lw_all := lw_g (lw_at lw_ms 17 rfl) rfl
theorem qs18 : (Cond.selects "SpoonScales$Reader" ⟨"SpoonScales$Reader", "product", "()LSpoonScales$Sum;"⟩ ⟨"SpoonScales$Reader", "product", "()LSpoonScales$Sum;"⟩) ∈ lw_all := lw_g (lw_at lw_ms 18 rfl) rfl
theorem qs19 : (Cond.selects "SpoonScales$Reader" ⟨"SpoonScales$Reader", "one", "()LSpoonScales$Sum;"⟩ ⟨"SpoonScales$Reader", "one", "()LSpoonScales$Sum;"⟩) ∈ lw_all := lw_g (lw_at lw_ms 19 rfl) rfl
theorem qs20 : (Cond.selects "SpoonScales$Reader" ⟨"SpoonScales$Reader", "isOf", "(I)Z"⟩ ⟨"SpoonScales$Reader", "isOf", "(I)Z"⟩) ∈ lw_all := lw_g (lw_at lw_ms 20 rfl) rfl
theorem qs21 : (Cond.selects "SpoonScales$Reader" ⟨"SpoonScales$Reader", "number", "(II)I"⟩ ⟨"SpoonScales$Reader", "number", "(II)I"⟩) ∈ lw_all := lw_g (lw_at lw_ms 21 rfl) rfl
theorem qs22 : (Cond.selects "SpoonScales$Reader" ⟨"SpoonScales$Reader", "opens", "()V"⟩ ⟨"SpoonScales$Reader", "opens", "()V"⟩) ∈ lw_all := lw_g (lw_at lw_ms 22 rfl) rfl
theorem qs23 : (Cond.selects "SpoonScales$Reader" ⟨"SpoonScales$Reader", "need", "(I)V"⟩ ⟨"SpoonScales$Reader", "need", "(I)V"⟩) ∈ lw_all := lw_g (lw_at lw_ms 23 rfl) rfl
theorem qs24 : (Cond.selects "SpoonScales$Reader" ⟨"SpoonScales$Reader", "either", "()LSpoonScales$Ask;"⟩ ⟨"SpoonScales$Reader", "either", "()LSpoonScales$Ask;"⟩) ∈ lw_all := lw_g (lw_at lw_ms 24 rfl) rfl
theorem qs25 : (Cond.selects "SpoonScales$Reader" ⟨"SpoonScales$Reader", "both", "()LSpoonScales$Ask;"⟩ ⟨"SpoonScales$Reader", "both", "()LSpoonScales$Ask;"⟩) ∈ lw_all := lw_g (lw_at lw_ms 25 rfl) rfl
theorem qs26 : (Cond.selects "SpoonScales$Reader" ⟨"SpoonScales$Reader", "ask", "()LSpoonScales$Ask;"⟩ ⟨"SpoonScales$Reader", "ask", "()LSpoonScales$Ask;"⟩) ∈ lw_all := lw_g (lw_at lw_ms 26 rfl) rfl
theorem qs27 : (Cond.selects "SpoonScales$Reader" ⟨"SpoonScales$Reader", "isCompare", "()Z"⟩ ⟨"SpoonScales$Reader", "isCompare", "()Z"⟩) ∈ lw_all := lw_g (lw_at lw_ms 27 rfl) rfl
theorem qs28 : (Cond.selects "SpoonScales$Reader" ⟨"SpoonScales$Reader", "line", "()LSpoonScales$Line;"⟩ ⟨"SpoonScales$Reader", "line", "()LSpoonScales$Line;"⟩) ∈ lw_all := lw_g (lw_at lw_ms 28 rfl) rfl
theorem qs29 : (Cond.selects "SpoonScales" ⟨"SpoonScales", "canCall", "(I)Z"⟩ ⟨"SpoonScales", "canCall", "(I)Z"⟩) ∈ lw_all := lw_g (lw_at lw_ms 29 rfl) rfl
theorem qs30 : (Cond.selects "SpoonScales" ⟨"SpoonScales", "calls", "(III)V"⟩ ⟨"SpoonScales", "calls", "(III)V"⟩) ∈ lw_all := lw_g (lw_at lw_ms 30 rfl) rfl
theorem qs31 : (Cond.selects "SpoonScales" ⟨"SpoonScales", "acquits", "(IIII)V"⟩ ⟨"SpoonScales", "acquits", "(IIII)V"⟩) ∈ lw_all := lw_g (lw_at lw_ms 31 rfl) rfl
theorem qs32 : (Cond.selects "SpoonScales" ⟨"SpoonScales", "leaves", "(IIII)Z"⟩ ⟨"SpoonScales", "leaves", "(IIII)Z"⟩) ∈ lw_all := lw_g (lw_at lw_ms 32 rfl) rfl
theorem qs33 : (Cond.selects "SpoonScales" ⟨"SpoonScales", "isFit", "(I)Z"⟩ ⟨"SpoonScales", "isFit", "(I)Z"⟩) ∈ lw_all := lw_g (lw_at lw_ms 33 rfl) rfl
theorem qs34 : (Cond.selects "SpoonScales" ⟨"SpoonScales", "unlike", "(I)I"⟩ ⟨"SpoonScales", "unlike", "(I)I"⟩) ∈ lw_all := lw_g (lw_at lw_ms 34 rfl) rfl
theorem qs35 : (Cond.selects "SpoonScalesModel" ⟨"SpoonScalesModel", "copies", "(Z)V"⟩ ⟨"SpoonScalesModel", "copies", "(Z)V"⟩) ∈ lw_all := lw_g (lw_at lw_ms 35 rfl) rfl
theorem qs36 : (Cond.selects "SpoonScalesModel" ⟨"SpoonScalesModel", "put", "(I)V"⟩ ⟨"SpoonScalesModel", "put", "(I)V"⟩) ∈ lw_all := lw_g (lw_at lw_ms 36 rfl) rfl
theorem qs37 : (Cond.selects "SpoonScalesModel" ⟨"SpoonScalesModel", "nextToken", "()V"⟩ ⟨"SpoonScalesModel", "nextToken", "()V"⟩) ∈ lw_all := lw_g (lw_at lw_ms 37 rfl) rfl
theorem qs38 : (Cond.selects "SpoonScalesModel" ⟨"SpoonScalesModel", "asks", "()V"⟩ ⟨"SpoonScalesModel", "asks", "()V"⟩) ∈ lw_all := lw_g (lw_at lw_ms 38 rfl) rfl
theorem qs39 : (Cond.selects "SpoonScalesModel" ⟨"SpoonScalesModel", "isWord", "(I)Z"⟩ ⟨"SpoonScalesModel", "isWord", "(I)Z"⟩) ∈ lw_all := lw_g (lw_at lw_ms 39 rfl) rfl
theorem qs40 : (Cond.selects "SpoonScalesModel" ⟨"SpoonScalesModel", "opensSign", "(I)Z"⟩ ⟨"SpoonScalesModel", "opensSign", "(I)Z"⟩) ∈ lw_all := lw_g (lw_at lw_ms 40 rfl) rfl
theorem qs41 : (Cond.selects "SpoonScalesModel" ⟨"SpoonScalesModel", "errs", "(I)V"⟩ ⟨"SpoonScalesModel", "errs", "(I)V"⟩) ∈ lw_all := lw_g (lw_at lw_ms 41 rfl) rfl
theorem qs42 : (Cond.selects "SpoonScalesModel" ⟨"SpoonScalesModel", "opensFrame", "(I)V"⟩ ⟨"SpoonScalesModel", "opensFrame", "(I)V"⟩) ∈ lw_all := lw_g (lw_at lw_ms 42 rfl) rfl
theorem qs43 : (Cond.selects "SpoonScalesModel" ⟨"SpoonScalesModel", "begins", "()V"⟩ ⟨"SpoonScalesModel", "begins", "()V"⟩) ∈ lw_all := lw_g (lw_at lw_ms 43 rfl) rfl
theorem qs44 : (Cond.selects "SpoonScalesModel" ⟨"SpoonScalesModel", "emits", "(II)V"⟩ ⟨"SpoonScalesModel", "emits", "(II)V"⟩) ∈ lw_all := lw_g (lw_at lw_ms 44 rfl) rfl
theorem qs45 : (Cond.selects "SpoonScalesModel" ⟨"SpoonScalesModel", "oneIsOver", "()V"⟩ ⟨"SpoonScalesModel", "oneIsOver", "()V"⟩) ∈ lw_all := lw_g (lw_at lw_ms 45 rfl) rfl
theorem qs46 : (Cond.selects "SpoonScalesModel" ⟨"SpoonScalesModel", "top", "()I"⟩ ⟨"SpoonScalesModel", "top", "()I"⟩) ∈ lw_all := lw_g (lw_at lw_ms 46 rfl) rfl
theorem qs47 : (Cond.selects "SpoonScalesModel" ⟨"SpoonScalesModel", "isSign", "(I)Z"⟩ ⟨"SpoonScalesModel", "isSign", "(I)Z"⟩) ∈ lw_all := lw_g (lw_at lw_ms 47 rfl) rfl
theorem qs48 : (Cond.selects "SpoonScalesModel" ⟨"SpoonScalesModel", "goesOn", "()V"⟩ ⟨"SpoonScalesModel", "goesOn", "()V"⟩) ∈ lw_all := lw_g (lw_at lw_ms 48 rfl) rfl
theorem qs49 : (Cond.selects "SpoonScalesModel" ⟨"SpoonScalesModel", "waitsFor", "(I)V"⟩ ⟨"SpoonScalesModel", "waitsFor", "(I)V"⟩) ∈ lw_all := lw_g (lw_at lw_ms 49 rfl) rfl
theorem qs50 : (Cond.selects "SpoonScalesModel" ⟨"SpoonScalesModel", "works", "(I)V"⟩ ⟨"SpoonScalesModel", "works", "(I)V"⟩) ∈ lw_all := lw_g (lw_at lw_ms 50 rfl) rfl
theorem qs51 : (Cond.selects "SpoonScalesModel" ⟨"SpoonScalesModel", "askIsOver", "()V"⟩ ⟨"SpoonScalesModel", "askIsOver", "()V"⟩) ∈ lw_all := lw_g (lw_at lw_ms 51 rfl) rfl
theorem qs52 : (Cond.selects "SpoonScalesModel" ⟨"SpoonScalesModel", "clauseIsOver", "()V"⟩ ⟨"SpoonScalesModel", "clauseIsOver", "()V"⟩) ∈ lw_all := lw_g (lw_at lw_ms 52 rfl) rfl
theorem qs53 : (Cond.selects "SpoonScalesModel" ⟨"SpoonScalesModel", "asksOn", "()V"⟩ ⟨"SpoonScalesModel", "asksOn", "()V"⟩) ∈ lw_all := lw_g (lw_at lw_ms 53 rfl) rfl
theorem qs54 : (Cond.selects "SpoonScalesModel" ⟨"SpoonScalesModel", "clause", "()V"⟩ ⟨"SpoonScalesModel", "clause", "()V"⟩) ∈ lw_all := lw_g (lw_at lw_ms 54 rfl) rfl
theorem qs55 : (Cond.selects "SpoonScalesModel" ⟨"SpoonScalesModel", "wasTold", "(I)Z"⟩ ⟨"SpoonScalesModel", "wasTold", "(I)Z"⟩) ∈ lw_all := lw_g (lw_at lw_ms 55 rfl) rfl
theorem qs56 : (Cond.selects "SpoonScalesModel" ⟨"SpoonScalesModel", "number", "(II)I"⟩ ⟨"SpoonScalesModel", "number", "(II)I"⟩) ∈ lw_all := lw_g (lw_at lw_ms 56 rfl) rfl
theorem qs57 : (Cond.selects "SpoonScalesModel" ⟨"SpoonScalesModel", "wants", "(I)V"⟩ ⟨"SpoonScalesModel", "wants", "(I)V"⟩) ∈ lw_all := lw_g (lw_at lw_ms 57 rfl) rfl
theorem qs58 : (Cond.selects "SpoonScalesModel" ⟨"SpoonScalesModel", "isEater", "(I)Z"⟩ ⟨"SpoonScalesModel", "isEater", "(I)Z"⟩) ∈ lw_all := lw_g (lw_at lw_ms 58 rfl) rfl
theorem qs59 : (Cond.selects "SpoonScalesModel" ⟨"SpoonScalesModel", "keepsStep", "()V"⟩ ⟨"SpoonScalesModel", "keepsStep", "()V"⟩) ∈ lw_all := lw_g (lw_at lw_ms 59 rfl) rfl
theorem qs60 : (Cond.selects "SpoonScalesModel" ⟨"SpoonScalesModel", "laysWorld", "()V"⟩ ⟨"SpoonScalesModel", "laysWorld", "()V"⟩) ∈ lw_all := lw_g (lw_at lw_ms 60 rfl) rfl
theorem qs61 : (Cond.selects "SpoonScalesModel" ⟨"SpoonScalesModel", "spoonOf", "(II)I"⟩ ⟨"SpoonScalesModel", "spoonOf", "(II)I"⟩) ∈ lw_all := lw_g (lw_at lw_ms 61 rfl) rfl
theorem qs62 : (Cond.selects "SpoonScalesModel" ⟨"SpoonScalesModel", "stillHolds", "(I)I"⟩ ⟨"SpoonScalesModel", "stillHolds", "(I)I"⟩) ∈ lw_all := lw_g (lw_at lw_ms 62 rfl) rfl
theorem qs63 : (Cond.selects "SpoonScalesModel" ⟨"SpoonScalesModel", "ordersOf", "(I)I"⟩ ⟨"SpoonScalesModel", "ordersOf", "(I)I"⟩) ∈ lw_all := lw_g (lw_at lw_ms 63 rfl) rfl
theorem qs64 : (Cond.selects "SpoonScalesModel" ⟨"SpoonScalesModel", "names", "(I)V"⟩ ⟨"SpoonScalesModel", "names", "(I)V"⟩) ∈ lw_all := lw_g (lw_at lw_ms 64 rfl) rfl
theorem qs65 : (Cond.selects "SpoonScalesModel" ⟨"SpoonScalesModel", "saysOf", "(I)J"⟩ ⟨"SpoonScalesModel", "saysOf", "(I)J"⟩) ∈ lw_all := lw_g (lw_at lw_ms 65 rfl) rfl
theorem qs66 : (Cond.selects "SpoonScalesModel" ⟨"SpoonScalesModel", "isGuilty", "(I)Z"⟩ ⟨"SpoonScalesModel", "isGuilty", "(I)Z"⟩) ∈ lw_all := lw_g (lw_at lw_ms 66 rfl) rfl
theorem qs67 : (Cond.selects "SpoonScalesModel" ⟨"SpoonScalesModel", "tilt", "()I"⟩ ⟨"SpoonScalesModel", "tilt", "()I"⟩) ∈ lw_all := lw_g (lw_at lw_ms 67 rfl) rfl
theorem qs68 : (Cond.selects "SpoonScalesModel" ⟨"SpoonScalesModel", "draw", "(I)I"⟩ ⟨"SpoonScalesModel", "draw", "(I)I"⟩) ∈ lw_all := lw_g (lw_at lw_ms 68 rfl) rfl
theorem qs69 : (Cond.selects "SpoonScalesModel" ⟨"SpoonScalesModel", "laysOrder", "(II)V"⟩ ⟨"SpoonScalesModel", "laysOrder", "(II)V"⟩) ∈ lw_all := lw_g (lw_at lw_ms 69 rfl) rfl
theorem qs70 : (Cond.selects "SpoonScalesModel" ⟨"SpoonScalesModel", "eats", "(II)I"⟩ ⟨"SpoonScalesModel", "eats", "(II)I"⟩) ∈ lw_all := lw_g (lw_at lw_ms 70 rfl) rfl
theorem qs71 : (Cond.selects "SpoonScalesModel" ⟨"SpoonScalesModel", "acquits", "(II)Z"⟩ ⟨"SpoonScalesModel", "acquits", "(II)Z"⟩) ∈ lw_all := lw_g (lw_at lw_ms 71 rfl) rfl
theorem qs72 : (Cond.selects "SpoonScalesModel" ⟨"SpoonScalesModel", "toldMore", "(I)I"⟩ ⟨"SpoonScalesModel", "toldMore", "(I)I"⟩) ∈ lw_all := lw_g (lw_at lw_ms 72 rfl) rfl
