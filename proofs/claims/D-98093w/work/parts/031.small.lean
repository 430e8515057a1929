/-! java/lang/Math -/
set_option maxRecDepth 100000
def RJ0 : String := "java/lang/Math"
abbrev cJ0_min : ByteArray := prog_27_method_70_code
def yJ0_min : MethodName := ⟨RJ0, "min", "(JJ)J"⟩
def dkwJ0_min_0 : List UInt8 := [30, 32, 148, 157, 0, 7, 30, 167, 0, 4, 32, 173]
abbrev dktJ0_min_0 : List UInt8 := dkwJ0_min_0 ++ []
theorem dksJ0_min_0 : cJ0_min.data.toList.drop 0 = dktJ0_min_0 := by decide +kernel
theorem dJ0_min_0 : decode cJ0_min 0 = .ok (.lload_n 0, 1) := dk_30 (dk_at dksJ0_min_0 0 rfl rfl)
theorem dJ0_min_1 : decode cJ0_min 1 = .ok (.lload_n 2, 1) := dk_32 (dk_at dksJ0_min_0 1 rfl rfl)
theorem dJ0_min_2 : decode cJ0_min 2 = .ok (.lcmp, 1) := dk_148 (dk_at dksJ0_min_0 2 rfl rfl)
theorem dJ0_min_3 : decode cJ0_min 3 = .ok (.ifCond .gt 7, 3) := dk_157 0 7 (dk_at dksJ0_min_0 3 rfl rfl)
theorem dJ0_min_6 : decode cJ0_min 6 = .ok (.lload_n 0, 1) := dk_30 (dk_at dksJ0_min_0 6 rfl rfl)
theorem dJ0_min_7 : decode cJ0_min 7 = .ok (.goto 4, 3) := dk_167 0 4 (dk_at dksJ0_min_0 7 rfl rfl)
theorem dJ0_min_10 : decode cJ0_min 10 = .ok (.lload_n 2, 1) := dk_32 (dk_at dksJ0_min_0 10 rfl rfl)
theorem dJ0_min_11 : decode cJ0_min 11 = .ok (.lreturn, 1) := dk_173 (dk_at dksJ0_min_0 11 rfl rfl)
abbrev cJ0_max : ByteArray := prog_27_method_66_code
def yJ0_max : MethodName := ⟨RJ0, "max", "(JJ)J"⟩
def dkwJ0_max_0 : List UInt8 := [30, 32, 148, 155, 0, 7, 30, 167, 0, 4, 32, 173]
abbrev dktJ0_max_0 : List UInt8 := dkwJ0_max_0 ++ []
theorem dksJ0_max_0 : cJ0_max.data.toList.drop 0 = dktJ0_max_0 := by decide +kernel
theorem dJ0_max_0 : decode cJ0_max 0 = .ok (.lload_n 0, 1) := dk_30 (dk_at dksJ0_max_0 0 rfl rfl)
theorem dJ0_max_1 : decode cJ0_max 1 = .ok (.lload_n 2, 1) := dk_32 (dk_at dksJ0_max_0 1 rfl rfl)
theorem dJ0_max_2 : decode cJ0_max 2 = .ok (.lcmp, 1) := dk_148 (dk_at dksJ0_max_0 2 rfl rfl)
theorem dJ0_max_3 : decode cJ0_max 3 = .ok (.ifCond .lt 7, 3) := dk_155 0 7 (dk_at dksJ0_max_0 3 rfl rfl)
theorem dJ0_max_6 : decode cJ0_max 6 = .ok (.lload_n 0, 1) := dk_30 (dk_at dksJ0_max_0 6 rfl rfl)
theorem dJ0_max_7 : decode cJ0_max 7 = .ok (.goto 4, 3) := dk_167 0 4 (dk_at dksJ0_max_0 7 rfl rfl)
theorem dJ0_max_10 : decode cJ0_max 10 = .ok (.lload_n 2, 1) := dk_32 (dk_at dksJ0_max_0 10 rfl rfl)
theorem dJ0_max_11 : decode cJ0_max 11 = .ok (.lreturn, 1) := dk_173 (dk_at dksJ0_max_0 11 rfl rfl)
abbrev cJ0_min_2 : ByteArray := prog_27_method_69_code
def yJ0_min_2 : MethodName := ⟨RJ0, "min", "(II)I"⟩
def dkwJ0_min_2_0 : List UInt8 := [26, 27, 163, 0, 7, 26, 167, 0, 4, 27, 172]
abbrev dktJ0_min_2_0 : List UInt8 := dkwJ0_min_2_0 ++ []
theorem dksJ0_min_2_0 : cJ0_min_2.data.toList.drop 0 = dktJ0_min_2_0 := by decide +kernel
theorem dJ0_min_2_0 : decode cJ0_min_2 0 = .ok (.iload_n 0, 1) := dk_26 (dk_at dksJ0_min_2_0 0 rfl rfl)
theorem dJ0_min_2_1 : decode cJ0_min_2 1 = .ok (.iload_n 1, 1) := dk_27 (dk_at dksJ0_min_2_0 1 rfl rfl)
theorem dJ0_min_2_2 : decode cJ0_min_2 2 = .ok (.if_icmp .gt 7, 3) := dk_163 0 7 (dk_at dksJ0_min_2_0 2 rfl rfl)
theorem dJ0_min_2_5 : decode cJ0_min_2 5 = .ok (.iload_n 0, 1) := dk_26 (dk_at dksJ0_min_2_0 5 rfl rfl)
theorem dJ0_min_2_6 : decode cJ0_min_2 6 = .ok (.goto 4, 3) := dk_167 0 4 (dk_at dksJ0_min_2_0 6 rfl rfl)
theorem dJ0_min_2_9 : decode cJ0_min_2 9 = .ok (.iload_n 1, 1) := dk_27 (dk_at dksJ0_min_2_0 9 rfl rfl)
theorem dJ0_min_2_10 : decode cJ0_min_2 10 = .ok (.ireturn, 1) := dk_172 (dk_at dksJ0_min_2_0 10 rfl rfl)
abbrev cJ0_max_2 : ByteArray := prog_27_method_65_code
def yJ0_max_2 : MethodName := ⟨RJ0, "max", "(II)I"⟩
def dkwJ0_max_2_0 : List UInt8 := [26, 27, 161, 0, 7, 26, 167, 0, 4, 27, 172]
abbrev dktJ0_max_2_0 : List UInt8 := dkwJ0_max_2_0 ++ []
theorem dksJ0_max_2_0 : cJ0_max_2.data.toList.drop 0 = dktJ0_max_2_0 := by decide +kernel
theorem dJ0_max_2_0 : decode cJ0_max_2 0 = .ok (.iload_n 0, 1) := dk_26 (dk_at dksJ0_max_2_0 0 rfl rfl)
theorem dJ0_max_2_1 : decode cJ0_max_2 1 = .ok (.iload_n 1, 1) := dk_27 (dk_at dksJ0_max_2_0 1 rfl rfl)
theorem dJ0_max_2_2 : decode cJ0_max_2 2 = .ok (.if_icmp .lt 7, 3) := dk_161 0 7 (dk_at dksJ0_max_2_0 2 rfl rfl)
theorem dJ0_max_2_5 : decode cJ0_max_2 5 = .ok (.iload_n 0, 1) := dk_26 (dk_at dksJ0_max_2_0 5 rfl rfl)
theorem dJ0_max_2_6 : decode cJ0_max_2 6 = .ok (.goto 4, 3) := dk_167 0 4 (dk_at dksJ0_max_2_0 6 rfl rfl)
theorem dJ0_max_2_9 : decode cJ0_max_2 9 = .ok (.iload_n 1, 1) := dk_27 (dk_at dksJ0_max_2_0 9 rfl rfl)
theorem dJ0_max_2_10 : decode cJ0_max_2 10 = .ok (.ireturn, 1) := dk_172 (dk_at dksJ0_max_2_0 10 rfl rfl)
abbrev cJ0_abs : ByteArray := prog_27_method_59_code
def yJ0_abs : MethodName := ⟨RJ0, "abs", "(I)I"⟩
def dkwJ0_abs_0 : List UInt8 := [26, 156, 0, 8, 26, 116, 167, 0, 4, 26, 172]
abbrev dktJ0_abs_0 : List UInt8 := dkwJ0_abs_0 ++ []
theorem dksJ0_abs_0 : cJ0_abs.data.toList.drop 0 = dktJ0_abs_0 := by decide +kernel
theorem dJ0_abs_0 : decode cJ0_abs 0 = .ok (.iload_n 0, 1) := dk_26 (dk_at dksJ0_abs_0 0 rfl rfl)
theorem dJ0_abs_1 : decode cJ0_abs 1 = .ok (.ifCond .ge 8, 3) := dk_156 0 8 (dk_at dksJ0_abs_0 1 rfl rfl)
theorem dJ0_abs_4 : decode cJ0_abs 4 = .ok (.iload_n 0, 1) := dk_26 (dk_at dksJ0_abs_0 4 rfl rfl)
theorem dJ0_abs_5 : decode cJ0_abs 5 = .ok (.ineg, 1) := dk_116 (dk_at dksJ0_abs_0 5 rfl rfl)
theorem dJ0_abs_6 : decode cJ0_abs 6 = .ok (.goto 4, 3) := dk_167 0 4 (dk_at dksJ0_abs_0 6 rfl rfl)
theorem dJ0_abs_9 : decode cJ0_abs 9 = .ok (.iload_n 0, 1) := dk_26 (dk_at dksJ0_abs_0 9 rfl rfl)
theorem dJ0_abs_10 : decode cJ0_abs 10 = .ok (.ireturn, 1) := dk_172 (dk_at dksJ0_abs_0 10 rfl rfl)
theorem q81 : (Jvm.Cond.initialized "java/lang/Math") ∈ lw_all := lw_g (lw_at lw_m1 8 rfl) rfl
theorem q379 : (Jvm.Cond.static ({ cls := "java/lang/Math", name := "min", desc := "(JJ)J" } : Jvm.MethodName)) ∈ lw_all := lw_g (lw_at lw_m2 66 rfl) rfl
theorem q380 : (Jvm.Cond.code ({ cls := "java/lang/Math", name := "min", desc := "(JJ)J" } : Jvm.MethodName) prog_27_method_70_code (4 : Nat) (Option.some Jvm.ClassFile.FieldType.long)) ∈ lw_all := lw_g (lw_at lw_m2 67 rfl) rfl
theorem q382 : (Jvm.Cond.static ({ cls := "java/lang/Math", name := "max", desc := "(JJ)J" } : Jvm.MethodName)) ∈ lw_all := lw_g (lw_at lw_m2 69 rfl) rfl
theorem q383 : (Jvm.Cond.code ({ cls := "java/lang/Math", name := "max", desc := "(JJ)J" } : Jvm.MethodName) prog_27_method_66_code (4 : Nat) (Option.some Jvm.ClassFile.FieldType.long)) ∈ lw_all := lw_g (lw_at lw_m2 70 rfl) rfl
theorem q385 : (Jvm.Cond.static ({ cls := "java/lang/Math", name := "min", desc := "(II)I" } : Jvm.MethodName)) ∈ lw_all := lw_g (lw_at lw_m2 72 rfl) rfl
theorem q386 : (Jvm.Cond.code ({ cls := "java/lang/Math", name := "min", desc := "(II)I" } : Jvm.MethodName) prog_27_method_69_code (2 : Nat) (Option.some Jvm.ClassFile.FieldType.int)) ∈ lw_all := lw_g (lw_at lw_m2 73 rfl) rfl
theorem q392 : (Jvm.Cond.static ({ cls := "java/lang/Math", name := "max", desc := "(II)I" } : Jvm.MethodName)) ∈ lw_all := lw_g (lw_at lw_m2 79 rfl) rfl
theorem q393 : (Jvm.Cond.code ({ cls := "java/lang/Math", name := "max", desc := "(II)I" } : Jvm.MethodName) prog_27_method_65_code (2 : Nat) (Option.some Jvm.ClassFile.FieldType.int)) ∈ lw_all := lw_g (lw_at lw_m2 80 rfl) rfl
theorem q932 : (Jvm.Cond.static ({ cls := "java/lang/Math", name := "abs", desc := "(I)I" } : Jvm.MethodName)) ∈ lw_all := lw_g (lw_at lw_m4 139 rfl) rfl
theorem q933 : (Jvm.Cond.code ({ cls := "java/lang/Math", name := "abs", desc := "(I)I" } : Jvm.MethodName) prog_27_method_59_code (1 : Nat) (Option.some Jvm.ClassFile.FieldType.int)) ∈ lw_all := lw_g (lw_at lw_m4 140 rfl) rfl

/-! java/lang/String -/
set_option maxRecDepth 100000
def RJ1 : String := "java/lang/String"
abbrev cJ1_length : ByteArray := prog_29_method_54_code
def yJ1_length : MethodName := ⟨RJ1, "length", "()I"⟩
def dkwJ1_length_0 : List UInt8 := [42, 180, 0, 9, 190, 42, 182, 1, 79, 122, 172]
abbrev dktJ1_length_0 : List UInt8 := dkwJ1_length_0 ++ []
theorem dksJ1_length_0 : cJ1_length.data.toList.drop 0 = dktJ1_length_0 := by decide +kernel
theorem dJ1_length_0 : decode cJ1_length 0 = .ok (.aload_n 0, 1) := dk_42 (dk_at dksJ1_length_0 0 rfl rfl)
theorem dJ1_length_1 : decode cJ1_length 1 = .ok (.getfield 9, 3) := dk_180 0 9 (dk_at dksJ1_length_0 1 rfl rfl)
theorem dJ1_length_4 : decode cJ1_length 4 = .ok (.arraylength, 1) := dk_190 (dk_at dksJ1_length_0 4 rfl rfl)
theorem dJ1_length_5 : decode cJ1_length 5 = .ok (.aload_n 0, 1) := dk_42 (dk_at dksJ1_length_0 5 rfl rfl)
theorem dJ1_length_6 : decode cJ1_length 6 = .ok (.invokevirtual 335, 3) := dk_182 1 79 (dk_at dksJ1_length_0 6 rfl rfl)
theorem dJ1_length_9 : decode cJ1_length 9 = .ok (.ishr, 1) := dk_122 (dk_at dksJ1_length_0 9 rfl rfl)
theorem dJ1_length_10 : decode cJ1_length 10 = .ok (.ireturn, 1) := dk_172 (dk_at dksJ1_length_0 10 rfl rfl)
abbrev cJ1_coder : ByteArray := prog_29_method_152_code
def yJ1_coder : MethodName := ⟨RJ1, "coder", "()B"⟩
def dkwJ1_coder_0 : List UInt8 := [178, 0, 38, 153, 0, 10, 42, 180, 0, 15, 167, 0, 4, 4, 172]
abbrev dktJ1_coder_0 : List UInt8 := dkwJ1_coder_0 ++ []
theorem dksJ1_coder_0 : cJ1_coder.data.toList.drop 0 = dktJ1_coder_0 := by decide +kernel
theorem dJ1_coder_0 : decode cJ1_coder 0 = .ok (.getstatic 38, 3) := dk_178 0 38 (dk_at dksJ1_coder_0 0 rfl rfl)
theorem dJ1_coder_3 : decode cJ1_coder 3 = .ok (.ifCond .eq 10, 3) := dk_153 0 10 (dk_at dksJ1_coder_0 3 rfl rfl)
theorem dJ1_coder_6 : decode cJ1_coder 6 = .ok (.aload_n 0, 1) := dk_42 (dk_at dksJ1_coder_0 6 rfl rfl)
theorem dJ1_coder_7 : decode cJ1_coder 7 = .ok (.getfield 15, 3) := dk_180 0 15 (dk_at dksJ1_coder_0 7 rfl rfl)
theorem dJ1_coder_10 : decode cJ1_coder 10 = .ok (.goto 4, 3) := dk_167 0 4 (dk_at dksJ1_coder_0 10 rfl rfl)
theorem dJ1_coder_13 : decode cJ1_coder 13 = .ok (.iconst 1, 1) := dk_4 (dk_at dksJ1_coder_0 13 rfl rfl)
theorem dJ1_coder_14 : decode cJ1_coder 14 = .ok (.ireturn, 1) := dk_172 (dk_at dksJ1_coder_0 14 rfl rfl)
abbrev cJ1_charAt : ByteArray := prog_29_method_56_code
def yJ1_charAt : MethodName := ⟨RJ1, "charAt", "(I)C"⟩
def dkwJ1_charAt_1 : List UInt8 := [172]
abbrev dktJ1_charAt_1 : List UInt8 := dkwJ1_charAt_1 ++ []
def dkwJ1_charAt_0 : List UInt8 := [42, 182, 1, 236, 153, 0, 12, 42, 180, 0, 9, 27, 184, 1, 239, 172, 42, 180, 0, 9, 27, 184, 1, 242]
abbrev dktJ1_charAt_0 : List UInt8 := dkwJ1_charAt_0 ++ dktJ1_charAt_1
theorem dksJ1_charAt_0 : cJ1_charAt.data.toList.drop 0 = dktJ1_charAt_0 := by decide +kernel
theorem dksJ1_charAt_1 : cJ1_charAt.data.toList.drop 24 = dktJ1_charAt_1 := dk_seg dksJ1_charAt_0 24 rfl rfl
theorem dJ1_charAt_0 : decode cJ1_charAt 0 = .ok (.aload_n 0, 1) := dk_42 (dk_at dksJ1_charAt_0 0 rfl rfl)
theorem dJ1_charAt_1 : decode cJ1_charAt 1 = .ok (.invokevirtual 492, 3) := dk_182 1 236 (dk_at dksJ1_charAt_0 1 rfl rfl)
theorem dJ1_charAt_4 : decode cJ1_charAt 4 = .ok (.ifCond .eq 12, 3) := dk_153 0 12 (dk_at dksJ1_charAt_0 4 rfl rfl)
theorem dJ1_charAt_7 : decode cJ1_charAt 7 = .ok (.aload_n 0, 1) := dk_42 (dk_at dksJ1_charAt_0 7 rfl rfl)
theorem dJ1_charAt_8 : decode cJ1_charAt 8 = .ok (.getfield 9, 3) := dk_180 0 9 (dk_at dksJ1_charAt_0 8 rfl rfl)
theorem dJ1_charAt_11 : decode cJ1_charAt 11 = .ok (.iload_n 1, 1) := dk_27 (dk_at dksJ1_charAt_0 11 rfl rfl)
theorem dJ1_charAt_12 : decode cJ1_charAt 12 = .ok (.invokestatic 495, 3) := dk_184 1 239 (dk_at dksJ1_charAt_0 12 rfl rfl)
theorem dJ1_charAt_15 : decode cJ1_charAt 15 = .ok (.ireturn, 1) := dk_172 (dk_at dksJ1_charAt_0 15 rfl rfl)
theorem dJ1_charAt_16 : decode cJ1_charAt 16 = .ok (.aload_n 0, 1) := dk_42 (dk_at dksJ1_charAt_0 16 rfl rfl)
theorem dJ1_charAt_17 : decode cJ1_charAt 17 = .ok (.getfield 9, 3) := dk_180 0 9 (dk_at dksJ1_charAt_0 17 rfl rfl)
theorem dJ1_charAt_20 : decode cJ1_charAt 20 = .ok (.iload_n 1, 1) := dk_27 (dk_at dksJ1_charAt_0 20 rfl rfl)
theorem dJ1_charAt_21 : decode cJ1_charAt 21 = .ok (.invokestatic 498, 3) := dk_184 1 242 (dk_at dksJ1_charAt_0 21 rfl rfl)
theorem dJ1_charAt_24 : decode cJ1_charAt 24 = .ok (.ireturn, 1) := dk_172 (dk_at dksJ1_charAt_1 0 rfl rfl)
abbrev cJ1_isLatin1 : ByteArray := prog_29_method_154_code
def yJ1_isLatin1 : MethodName := ⟨RJ1, "isLatin1", "()Z"⟩
def dkwJ1_isLatin1_0 : List UInt8 := [178, 0, 38, 153, 0, 14, 42, 180, 0, 15, 154, 0, 7, 4, 167, 0, 4, 3, 172]
abbrev dktJ1_isLatin1_0 : List UInt8 := dkwJ1_isLatin1_0 ++ []
theorem dksJ1_isLatin1_0 : cJ1_isLatin1.data.toList.drop 0 = dktJ1_isLatin1_0 := by decide +kernel
theorem dJ1_isLatin1_0 : decode cJ1_isLatin1 0 = .ok (.getstatic 38, 3) := dk_178 0 38 (dk_at dksJ1_isLatin1_0 0 rfl rfl)
theorem dJ1_isLatin1_3 : decode cJ1_isLatin1 3 = .ok (.ifCond .eq 14, 3) := dk_153 0 14 (dk_at dksJ1_isLatin1_0 3 rfl rfl)
theorem dJ1_isLatin1_6 : decode cJ1_isLatin1 6 = .ok (.aload_n 0, 1) := dk_42 (dk_at dksJ1_isLatin1_0 6 rfl rfl)
theorem dJ1_isLatin1_7 : decode cJ1_isLatin1 7 = .ok (.getfield 15, 3) := dk_180 0 15 (dk_at dksJ1_isLatin1_0 7 rfl rfl)
theorem dJ1_isLatin1_10 : decode cJ1_isLatin1 10 = .ok (.ifCond .ne 7, 3) := dk_154 0 7 (dk_at dksJ1_isLatin1_0 10 rfl rfl)
theorem dJ1_isLatin1_13 : decode cJ1_isLatin1 13 = .ok (.iconst 1, 1) := dk_4 (dk_at dksJ1_isLatin1_0 13 rfl rfl)
theorem dJ1_isLatin1_14 : decode cJ1_isLatin1 14 = .ok (.goto 4, 3) := dk_167 0 4 (dk_at dksJ1_isLatin1_0 14 rfl rfl)
theorem dJ1_isLatin1_17 : decode cJ1_isLatin1 17 = .ok (.iconst 0, 1) := dk_3 (dk_at dksJ1_isLatin1_0 17 rfl rfl)
theorem dJ1_isLatin1_18 : decode cJ1_isLatin1 18 = .ok (.ireturn, 1) := dk_172 (dk_at dksJ1_isLatin1_0 18 rfl rfl)
abbrev cJ1_checkIndex : ByteArray := prog_29_method_155_code
def yJ1_checkIndex : MethodName := ⟨RJ1, "checkIndex", "(II)V"⟩
def dkwJ1_checkIndex_0 : List UInt8 := [26, 27, 178, 4, 29, 184, 4, 35, 87, 177]
abbrev dktJ1_checkIndex_0 : List UInt8 := dkwJ1_checkIndex_0 ++ []
theorem dksJ1_checkIndex_0 : cJ1_checkIndex.data.toList.drop 0 = dktJ1_checkIndex_0 := by decide +kernel
theorem dJ1_checkIndex_0 : decode cJ1_checkIndex 0 = .ok (.iload_n 0, 1) := dk_26 (dk_at dksJ1_checkIndex_0 0 rfl rfl)
theorem dJ1_checkIndex_1 : decode cJ1_checkIndex 1 = .ok (.iload_n 1, 1) := dk_27 (dk_at dksJ1_checkIndex_0 1 rfl rfl)
theorem dJ1_checkIndex_2 : decode cJ1_checkIndex 2 = .ok (.getstatic 1053, 3) := dk_178 4 29 (dk_at dksJ1_checkIndex_0 2 rfl rfl)
theorem dJ1_checkIndex_5 : decode cJ1_checkIndex 5 = .ok (.invokestatic 1059, 3) := dk_184 4 35 (dk_at dksJ1_checkIndex_0 5 rfl rfl)
theorem dJ1_checkIndex_8 : decode cJ1_checkIndex 8 = .ok (.pop, 1) := dk_87 (dk_at dksJ1_checkIndex_0 8 rfl rfl)
theorem dJ1_checkIndex_9 : decode cJ1_checkIndex 9 = .ok (.return_, 1) := dk_177 (dk_at dksJ1_checkIndex_0 9 rfl rfl)
theorem q83 : (Jvm.Cond.initialized "java/lang/String") ∈ lw_all := lw_g (lw_at lw_m1 10 rfl) rfl
theorem q540 : (Jvm.Cond.instanceMethod ({ cls := "java/lang/String", name := "length", desc := "()I" } : Jvm.MethodName)) ∈ lw_all := lw_g (lw_at lw_m2 227 rfl) rfl
theorem q541 : (Jvm.Cond.selects "java/lang/String" ({ cls := "java/lang/String", name := "length", desc := "()I" } : Jvm.MethodName) ({ cls := "java/lang/String", name := "length", desc := "()I" } : Jvm.MethodName)) ∈ lw_all := lw_g (lw_at lw_m2 228 rfl) rfl
theorem q542 : (Jvm.Cond.code ({ cls := "java/lang/String", name := "length", desc := "()I" } : Jvm.MethodName) prog_29_method_54_code (1 : Nat) (Option.some Jvm.ClassFile.FieldType.int)) ∈ lw_all := lw_g (lw_at lw_m2 229 rfl) rfl
theorem q543 : (Jvm.Cond.methodLink "java/lang/String" (335 : Nat) ({ cls := "java/lang/String", name := "coder", desc := "()B" } : Jvm.MethodName)) ∈ lw_all := lw_g (lw_at lw_m2 230 rfl) rfl
theorem q544 : (Jvm.Cond.instanceMethod ({ cls := "java/lang/String", name := "coder", desc := "()B" } : Jvm.MethodName)) ∈ lw_all := lw_g (lw_at lw_m2 231 rfl) rfl
theorem q545 : (Jvm.Cond.selects "java/lang/String" ({ cls := "java/lang/String", name := "coder", desc := "()B" } : Jvm.MethodName) ({ cls := "java/lang/String", name := "coder", desc := "()B" } : Jvm.MethodName)) ∈ lw_all := lw_g (lw_at lw_m2 232 rfl) rfl
theorem q546 : (Jvm.Cond.code ({ cls := "java/lang/String", name := "coder", desc := "()B" } : Jvm.MethodName) prog_29_method_152_code (1 : Nat) (Option.some Jvm.ClassFile.FieldType.byte)) ∈ lw_all := lw_g (lw_at lw_m2 233 rfl) rfl
theorem q547 : (Jvm.Cond.fieldLink "java/lang/String" (38 : Nat) "java/lang/String" "COMPACT_STRINGS" "Z") ∈ lw_all := lw_g (lw_at lw_m2 234 rfl) rfl
theorem q548 : (Jvm.Cond.laysStatic "java/lang/String" "COMPACT_STRINGS" "Z") ∈ lw_tbl := lw_at lw_m2 235 rfl
theorem q550 : (Jvm.Cond.instanceMethod ({ cls := "java/lang/String", name := "charAt", desc := "(I)C" } : Jvm.MethodName)) ∈ lw_all := lw_g (lw_at lw_m2 237 rfl) rfl
theorem q551 : (Jvm.Cond.selects "java/lang/String" ({ cls := "java/lang/String", name := "charAt", desc := "(I)C" } : Jvm.MethodName) ({ cls := "java/lang/String", name := "charAt", desc := "(I)C" } : Jvm.MethodName)) ∈ lw_all := lw_g (lw_at lw_m2 238 rfl) rfl
theorem q552 : (Jvm.Cond.code ({ cls := "java/lang/String", name := "charAt", desc := "(I)C" } : Jvm.MethodName) prog_29_method_56_code (2 : Nat) (Option.some Jvm.ClassFile.FieldType.char)) ∈ lw_all := lw_g (lw_at lw_m2 239 rfl) rfl
theorem q553 : (Jvm.Cond.methodLink "java/lang/String" (492 : Nat) ({ cls := "java/lang/String", name := "isLatin1", desc := "()Z" } : Jvm.MethodName)) ∈ lw_all := lw_g (lw_at lw_m3 0 rfl) rfl
theorem q554 : (Jvm.Cond.instanceMethod ({ cls := "java/lang/String", name := "isLatin1", desc := "()Z" } : Jvm.MethodName)) ∈ lw_all := lw_g (lw_at lw_m3 1 rfl) rfl
theorem q555 : (Jvm.Cond.selects "java/lang/String" ({ cls := "java/lang/String", name := "isLatin1", desc := "()Z" } : Jvm.MethodName) ({ cls := "java/lang/String", name := "isLatin1", desc := "()Z" } : Jvm.MethodName)) ∈ lw_all := lw_g (lw_at lw_m3 2 rfl) rfl
theorem q556 : (Jvm.Cond.code ({ cls := "java/lang/String", name := "isLatin1", desc := "()Z" } : Jvm.MethodName) prog_29_method_154_code (1 : Nat) (Option.some Jvm.ClassFile.FieldType.boolean)) ∈ lw_all := lw_g (lw_at lw_m3 3 rfl) rfl
theorem q557 : (Jvm.Cond.methodLink "java/lang/String" (495 : Nat) ({ cls := "java/lang/StringLatin1", name := "charAt", desc := "([BI)C" } : Jvm.MethodName)) ∈ lw_all := lw_g (lw_at lw_m3 4 rfl) rfl
theorem q561 : (Jvm.Cond.static ({ cls := "java/lang/String", name := "checkIndex", desc := "(II)V" } : Jvm.MethodName)) ∈ lw_all := lw_g (lw_at lw_m3 8 rfl) rfl
theorem q562 : (Jvm.Cond.code ({ cls := "java/lang/String", name := "checkIndex", desc := "(II)V" } : Jvm.MethodName) prog_29_method_155_code (2 : Nat) (Option.none : Option Jvm.ClassFile.FieldType)) ∈ lw_all := lw_g (lw_at lw_m3 9 rfl) rfl
theorem q563 : (Jvm.Cond.fieldLink "java/lang/String" (1053 : Nat) "jdk/internal/util/Preconditions" "SIOOBE_FORMATTER" "Ljava/util/function/BiFunction;") ∈ lw_all := lw_g (lw_at lw_m3 10 rfl) rfl
theorem q565 : (Jvm.Cond.methodLink "java/lang/String" (1059 : Nat) ({ cls := "jdk/internal/util/Preconditions", name := "checkIndex", desc := "(IILjava/util/function/BiFunction;)I" } : Jvm.MethodName)) ∈ lw_all := lw_g (lw_at lw_m3 12 rfl) rfl
theorem q568 : (Jvm.Cond.methodLink "java/lang/String" (498 : Nat) ({ cls := "java/lang/StringUTF16", name := "charAt", desc := "([BI)C" } : Jvm.MethodName)) ∈ lw_all := lw_g (lw_at lw_m3 15 rfl) rfl
theorem q1556 : (Jvm.Cond.fieldLink "java/lang/String" (9 : Nat) "java/lang/String" "value" "[B") ∈ lw_all := lw_g (lw_at lw_m7 43 rfl) rfl
theorem q1557 : (Jvm.Cond.fieldLink "java/lang/String" (15 : Nat) "java/lang/String" "coder" "B") ∈ lw_all := lw_g (lw_at lw_m7 44 rfl) rfl

/-! java/lang/Object -/
set_option maxRecDepth 100000
def RJ10 : String := "java/lang/Object"
abbrev cJ10_init : ByteArray := object_method_1_code
def yJ10_init : MethodName := ⟨RJ10, "<init>", "()V"⟩
theorem dJ10_init_0 : decode cJ10_init 0 = .ok (.return_, 1) := by decide +kernel
theorem q110 : (Jvm.Cond.instanceMethod ({ cls := "java/lang/Object", name := "<init>", desc := "()V" } : Jvm.MethodName)) ∈ lw_all := lw_g (lw_at lw_m1 37 rfl) rfl
theorem q111 : (Jvm.Cond.code ({ cls := "java/lang/Object", name := "<init>", desc := "()V" } : Jvm.MethodName) object_method_1_code (1 : Nat) (Option.none : Option Jvm.ClassFile.FieldType)) ∈ lw_all := lw_g (lw_at lw_m1 38 rfl) rfl
theorem q991 : (Jvm.Cond.native ({ cls := "java/lang/Object", name := "clone", desc := "()Ljava/lang/Object;" } : Jvm.MethodName)) ∈ lw_all := lw_g (lw_at lw_m4 198 rfl) rfl
theorem q992 : (Jvm.Cond.instanceMethod ({ cls := "java/lang/Object", name := "clone", desc := "()Ljava/lang/Object;" } : Jvm.MethodName)) ∈ lw_all := lw_g (lw_at lw_m4 199 rfl) rfl
theorem q1554 : (Jvm.Cond.initialized "java/lang/Object") ∈ lw_all := lw_g (lw_at lw_m7 41 rfl) rfl

/-! java/lang/StringLatin1 -/
set_option maxRecDepth 100000
def RJ2 : String := "java/lang/StringLatin1"
abbrev cJ2_charAt : ByteArray := prog_30_method_2_code
def yJ2_charAt : MethodName := ⟨RJ2, "charAt", "([BI)C"⟩
def dkwJ2_charAt_0 : List UInt8 := [27, 42, 190, 184, 0, 9, 42, 27, 51, 17, 0, 255, 126, 146, 172]
abbrev dktJ2_charAt_0 : List UInt8 := dkwJ2_charAt_0 ++ []
theorem dksJ2_charAt_0 : cJ2_charAt.data.toList.drop 0 = dktJ2_charAt_0 := by decide +kernel
theorem dJ2_charAt_0 : decode cJ2_charAt 0 = .ok (.iload_n 1, 1) := dk_27 (dk_at dksJ2_charAt_0 0 rfl rfl)
theorem dJ2_charAt_1 : decode cJ2_charAt 1 = .ok (.aload_n 0, 1) := dk_42 (dk_at dksJ2_charAt_0 1 rfl rfl)
theorem dJ2_charAt_2 : decode cJ2_charAt 2 = .ok (.arraylength, 1) := dk_190 (dk_at dksJ2_charAt_0 2 rfl rfl)
theorem dJ2_charAt_3 : decode cJ2_charAt 3 = .ok (.invokestatic 9, 3) := dk_184 0 9 (dk_at dksJ2_charAt_0 3 rfl rfl)
theorem dJ2_charAt_6 : decode cJ2_charAt 6 = .ok (.aload_n 0, 1) := dk_42 (dk_at dksJ2_charAt_0 6 rfl rfl)
theorem dJ2_charAt_7 : decode cJ2_charAt 7 = .ok (.iload_n 1, 1) := dk_27 (dk_at dksJ2_charAt_0 7 rfl rfl)
theorem dJ2_charAt_8 : decode cJ2_charAt 8 = .ok (.baload, 1) := dk_51 (dk_at dksJ2_charAt_0 8 rfl rfl)
theorem dJ2_charAt_9 : decode cJ2_charAt 9 = .ok (.sipush 255, 3) := dk_17 0 255 (dk_at dksJ2_charAt_0 9 rfl rfl)
theorem dJ2_charAt_12 : decode cJ2_charAt 12 = .ok (.iand, 1) := dk_126 (dk_at dksJ2_charAt_0 12 rfl rfl)
theorem dJ2_charAt_13 : decode cJ2_charAt 13 = .ok (.i2c, 1) := dk_146 (dk_at dksJ2_charAt_0 13 rfl rfl)
theorem dJ2_charAt_14 : decode cJ2_charAt 14 = .ok (.ireturn, 1) := dk_172 (dk_at dksJ2_charAt_0 14 rfl rfl)
theorem q84 : (Jvm.Cond.initialized "java/lang/StringLatin1") ∈ lw_all := lw_g (lw_at lw_m1 11 rfl) rfl
theorem q558 : (Jvm.Cond.static ({ cls := "java/lang/StringLatin1", name := "charAt", desc := "([BI)C" } : Jvm.MethodName)) ∈ lw_all := lw_g (lw_at lw_m3 5 rfl) rfl
theorem q559 : (Jvm.Cond.code ({ cls := "java/lang/StringLatin1", name := "charAt", desc := "([BI)C" } : Jvm.MethodName) prog_30_method_2_code (2 : Nat) (Option.some Jvm.ClassFile.FieldType.char)) ∈ lw_all := lw_g (lw_at lw_m3 6 rfl) rfl
theorem q560 : (Jvm.Cond.methodLink "java/lang/StringLatin1" (9 : Nat) ({ cls := "java/lang/String", name := "checkIndex", desc := "(II)V" } : Jvm.MethodName)) ∈ lw_all := lw_g (lw_at lw_m3 7 rfl) rfl

/-! jdk/internal/util/Preconditions -/
set_option maxRecDepth 100000
def RJ3 : String := "jdk/internal/util/Preconditions"
abbrev cJ3_checkIndex : ByteArray := prog_35_method_11_code
def yJ3_checkIndex : MethodName := ⟨RJ3, "checkIndex", "(IILjava/util/function/BiFunction;)I"⟩
def dkwJ3_checkIndex_0 : List UInt8 := [26, 155, 0, 8, 26, 27, 161, 0, 10, 44, 26, 27, 184, 0, 95, 191, 26, 172]
abbrev dktJ3_checkIndex_0 : List UInt8 := dkwJ3_checkIndex_0 ++ []
theorem dksJ3_checkIndex_0 : cJ3_checkIndex.data.toList.drop 0 = dktJ3_checkIndex_0 := by decide +kernel
theorem dJ3_checkIndex_0 : decode cJ3_checkIndex 0 = .ok (.iload_n 0, 1) := dk_26 (dk_at dksJ3_checkIndex_0 0 rfl rfl)
theorem dJ3_checkIndex_1 : decode cJ3_checkIndex 1 = .ok (.ifCond .lt 8, 3) := dk_155 0 8 (dk_at dksJ3_checkIndex_0 1 rfl rfl)
theorem dJ3_checkIndex_4 : decode cJ3_checkIndex 4 = .ok (.iload_n 0, 1) := dk_26 (dk_at dksJ3_checkIndex_0 4 rfl rfl)
theorem dJ3_checkIndex_5 : decode cJ3_checkIndex 5 = .ok (.iload_n 1, 1) := dk_27 (dk_at dksJ3_checkIndex_0 5 rfl rfl)
theorem dJ3_checkIndex_6 : decode cJ3_checkIndex 6 = .ok (.if_icmp .lt 10, 3) := dk_161 0 10 (dk_at dksJ3_checkIndex_0 6 rfl rfl)
theorem dJ3_checkIndex_9 : decode cJ3_checkIndex 9 = .ok (.aload_n 2, 1) := dk_44 (dk_at dksJ3_checkIndex_0 9 rfl rfl)
theorem dJ3_checkIndex_10 : decode cJ3_checkIndex 10 = .ok (.iload_n 0, 1) := dk_26 (dk_at dksJ3_checkIndex_0 10 rfl rfl)
theorem dJ3_checkIndex_11 : decode cJ3_checkIndex 11 = .ok (.iload_n 1, 1) := dk_27 (dk_at dksJ3_checkIndex_0 11 rfl rfl)
theorem dJ3_checkIndex_12 : decode cJ3_checkIndex 12 = .ok (.invokestatic 95, 3) := dk_184 0 95 (dk_at dksJ3_checkIndex_0 12 rfl rfl)
theorem dJ3_checkIndex_15 : decode cJ3_checkIndex 15 = .ok (.athrow, 1) := dk_191 (dk_at dksJ3_checkIndex_0 15 rfl rfl)
theorem dJ3_checkIndex_16 : decode cJ3_checkIndex 16 = .ok (.iload_n 0, 1) := dk_26 (dk_at dksJ3_checkIndex_0 16 rfl rfl)
theorem dJ3_checkIndex_17 : decode cJ3_checkIndex 17 = .ok (.ireturn, 1) := dk_172 (dk_at dksJ3_checkIndex_0 17 rfl rfl)
theorem q85 : (Jvm.Cond.initialized "jdk/internal/util/Preconditions") ∈ lw_all := lw_g (lw_at lw_m1 12 rfl) rfl
theorem q564 : (Jvm.Cond.laysStatic "jdk/internal/util/Preconditions" "SIOOBE_FORMATTER" "Ljava/util/function/BiFunction;") ∈ lw_tbl := lw_at lw_m3 11 rfl
theorem q566 : (Jvm.Cond.static ({ cls := "jdk/internal/util/Preconditions", name := "checkIndex", desc := "(IILjava/util/function/BiFunction;)I" } : Jvm.MethodName)) ∈ lw_all := lw_g (lw_at lw_m3 13 rfl) rfl
theorem q567 : (Jvm.Cond.code ({ cls := "jdk/internal/util/Preconditions", name := "checkIndex", desc := "(IILjava/util/function/BiFunction;)I" } : Jvm.MethodName) prog_35_method_11_code (3 : Nat) (Option.some Jvm.ClassFile.FieldType.int)) ∈ lw_all := lw_g (lw_at lw_m3 14 rfl) rfl

/-! java/lang/StringUTF16 -/
set_option maxRecDepth 100000
def RJ4 : String := "java/lang/StringUTF16"
abbrev cJ4_charAt : ByteArray := prog_31_method_83_code
def yJ4_charAt : MethodName := ⟨RJ4, "charAt", "([BI)C"⟩
def dkwJ4_charAt_0 : List UInt8 := [27, 42, 184, 0, 67, 42, 27, 184, 0, 71, 172]
abbrev dktJ4_charAt_0 : List UInt8 := dkwJ4_charAt_0 ++ []
theorem dksJ4_charAt_0 : cJ4_charAt.data.toList.drop 0 = dktJ4_charAt_0 := by decide +kernel
theorem dJ4_charAt_0 : decode cJ4_charAt 0 = .ok (.iload_n 1, 1) := dk_27 (dk_at dksJ4_charAt_0 0 rfl rfl)
theorem dJ4_charAt_1 : decode cJ4_charAt 1 = .ok (.aload_n 0, 1) := dk_42 (dk_at dksJ4_charAt_0 1 rfl rfl)
theorem dJ4_charAt_2 : decode cJ4_charAt 2 = .ok (.invokestatic 67, 3) := dk_184 0 67 (dk_at dksJ4_charAt_0 2 rfl rfl)
theorem dJ4_charAt_5 : decode cJ4_charAt 5 = .ok (.aload_n 0, 1) := dk_42 (dk_at dksJ4_charAt_0 5 rfl rfl)
theorem dJ4_charAt_6 : decode cJ4_charAt 6 = .ok (.iload_n 1, 1) := dk_27 (dk_at dksJ4_charAt_0 6 rfl rfl)
theorem dJ4_charAt_7 : decode cJ4_charAt 7 = .ok (.invokestatic 71, 3) := dk_184 0 71 (dk_at dksJ4_charAt_0 7 rfl rfl)
theorem dJ4_charAt_10 : decode cJ4_charAt 10 = .ok (.ireturn, 1) := dk_172 (dk_at dksJ4_charAt_0 10 rfl rfl)
abbrev cJ4_checkIndex : ByteArray := prog_31_method_91_code
def yJ4_checkIndex : MethodName := ⟨RJ4, "checkIndex", "(I[B)V"⟩
def dkwJ4_checkIndex_0 : List UInt8 := [26, 43, 184, 0, 48, 184, 1, 158, 177]
abbrev dktJ4_checkIndex_0 : List UInt8 := dkwJ4_checkIndex_0 ++ []
theorem dksJ4_checkIndex_0 : cJ4_checkIndex.data.toList.drop 0 = dktJ4_checkIndex_0 := by decide +kernel
theorem dJ4_checkIndex_0 : decode cJ4_checkIndex 0 = .ok (.iload_n 0, 1) := dk_26 (dk_at dksJ4_checkIndex_0 0 rfl rfl)
theorem dJ4_checkIndex_1 : decode cJ4_checkIndex 1 = .ok (.aload_n 1, 1) := dk_43 (dk_at dksJ4_checkIndex_0 1 rfl rfl)
theorem dJ4_checkIndex_2 : decode cJ4_checkIndex 2 = .ok (.invokestatic 48, 3) := dk_184 0 48 (dk_at dksJ4_checkIndex_0 2 rfl rfl)
theorem dJ4_checkIndex_5 : decode cJ4_checkIndex 5 = .ok (.invokestatic 414, 3) := dk_184 1 158 (dk_at dksJ4_checkIndex_0 5 rfl rfl)
theorem dJ4_checkIndex_8 : decode cJ4_checkIndex 8 = .ok (.return_, 1) := dk_177 (dk_at dksJ4_checkIndex_0 8 rfl rfl)
abbrev cJ4_length : ByteArray := prog_31_method_6_code
def yJ4_length : MethodName := ⟨RJ4, "length", "([B)I"⟩
def dkwJ4_length_0 : List UInt8 := [42, 190, 4, 122, 172]
abbrev dktJ4_length_0 : List UInt8 := dkwJ4_length_0 ++ []
theorem dksJ4_length_0 : cJ4_length.data.toList.drop 0 = dktJ4_length_0 := by decide +kernel
theorem dJ4_length_0 : decode cJ4_length 0 = .ok (.aload_n 0, 1) := dk_42 (dk_at dksJ4_length_0 0 rfl rfl)
theorem dJ4_length_1 : decode cJ4_length 1 = .ok (.arraylength, 1) := dk_190 (dk_at dksJ4_length_0 1 rfl rfl)
theorem dJ4_length_2 : decode cJ4_length 2 = .ok (.iconst 1, 1) := dk_4 (dk_at dksJ4_length_0 2 rfl rfl)
theorem dJ4_length_3 : decode cJ4_length 3 = .ok (.ishr, 1) := dk_122 (dk_at dksJ4_length_0 3 rfl rfl)
theorem dJ4_length_4 : decode cJ4_length 4 = .ok (.ireturn, 1) := dk_172 (dk_at dksJ4_length_0 4 rfl rfl)
abbrev cJ4_getChar : ByteArray := prog_31_method_5_code
def yJ4_getChar : MethodName := ⟨RJ4, "getChar", "([BI)C"⟩
def dkwJ4_getChar_2 : List UInt8 := [51, 17, 0, 255, 126, 178, 0, 63, 120, 128, 146, 172]
abbrev dktJ4_getChar_2 : List UInt8 := dkwJ4_getChar_2 ++ []
def dkwJ4_getChar_1 : List UInt8 := [183, 0, 56, 191, 27, 4, 120, 60, 42, 27, 132, 1, 1, 51, 17, 0, 255, 126, 178, 0, 59, 120, 42, 27]
abbrev dktJ4_getChar_1 : List UInt8 := dkwJ4_getChar_1 ++ dktJ4_getChar_2
def dkwJ4_getChar_0 : List UInt8 := [178, 0, 44, 154, 0, 25, 27, 155, 0, 11, 27, 42, 184, 0, 48, 161, 0, 13, 187, 0, 52, 89, 18, 54]
abbrev dktJ4_getChar_0 : List UInt8 := dkwJ4_getChar_0 ++ dktJ4_getChar_1
theorem dksJ4_getChar_0 : cJ4_getChar.data.toList.drop 0 = dktJ4_getChar_0 := by decide +kernel
theorem dksJ4_getChar_1 : cJ4_getChar.data.toList.drop 24 = dktJ4_getChar_1 := dk_seg dksJ4_getChar_0 24 rfl rfl
theorem dksJ4_getChar_2 : cJ4_getChar.data.toList.drop 48 = dktJ4_getChar_2 := dk_seg dksJ4_getChar_1 24 rfl rfl
theorem dJ4_getChar_0 : decode cJ4_getChar 0 = .ok (.getstatic 44, 3) := dk_178 0 44 (dk_at dksJ4_getChar_0 0 rfl rfl)
theorem dJ4_getChar_3 : decode cJ4_getChar 3 = .ok (.ifCond .ne 25, 3) := dk_154 0 25 (dk_at dksJ4_getChar_0 3 rfl rfl)
theorem dJ4_getChar_6 : decode cJ4_getChar 6 = .ok (.iload_n 1, 1) := dk_27 (dk_at dksJ4_getChar_0 6 rfl rfl)
theorem dJ4_getChar_7 : decode cJ4_getChar 7 = .ok (.ifCond .lt 11, 3) := dk_155 0 11 (dk_at dksJ4_getChar_0 7 rfl rfl)
theorem dJ4_getChar_10 : decode cJ4_getChar 10 = .ok (.iload_n 1, 1) := dk_27 (dk_at dksJ4_getChar_0 10 rfl rfl)
theorem dJ4_getChar_11 : decode cJ4_getChar 11 = .ok (.aload_n 0, 1) := dk_42 (dk_at dksJ4_getChar_0 11 rfl rfl)
theorem dJ4_getChar_12 : decode cJ4_getChar 12 = .ok (.invokestatic 48, 3) := dk_184 0 48 (dk_at dksJ4_getChar_0 12 rfl rfl)
theorem dJ4_getChar_15 : decode cJ4_getChar 15 = .ok (.if_icmp .lt 13, 3) := dk_161 0 13 (dk_at dksJ4_getChar_0 15 rfl rfl)
theorem dJ4_getChar_18 : decode cJ4_getChar 18 = .ok (.new 52, 3) := dk_187 0 52 (dk_at dksJ4_getChar_0 18 rfl rfl)
theorem dJ4_getChar_21 : decode cJ4_getChar 21 = .ok (.dup, 1) := dk_89 (dk_at dksJ4_getChar_0 21 rfl rfl)
theorem dJ4_getChar_22 : decode cJ4_getChar 22 = .ok (.ldc 54, 2) := dk_18 54 (dk_at dksJ4_getChar_0 22 rfl rfl)
theorem dJ4_getChar_24 : decode cJ4_getChar 24 = .ok (.invokespecial 56, 3) := dk_183 0 56 (dk_at dksJ4_getChar_1 0 rfl rfl)
theorem dJ4_getChar_27 : decode cJ4_getChar 27 = .ok (.athrow, 1) := dk_191 (dk_at dksJ4_getChar_1 3 rfl rfl)
theorem dJ4_getChar_28 : decode cJ4_getChar 28 = .ok (.iload_n 1, 1) := dk_27 (dk_at dksJ4_getChar_1 4 rfl rfl)
theorem dJ4_getChar_29 : decode cJ4_getChar 29 = .ok (.iconst 1, 1) := dk_4 (dk_at dksJ4_getChar_1 5 rfl rfl)
theorem dJ4_getChar_30 : decode cJ4_getChar 30 = .ok (.ishl, 1) := dk_120 (dk_at dksJ4_getChar_1 6 rfl rfl)
theorem dJ4_getChar_31 : decode cJ4_getChar 31 = .ok (.istore_n 1, 1) := dk_60 (dk_at dksJ4_getChar_1 7 rfl rfl)
theorem dJ4_getChar_32 : decode cJ4_getChar 32 = .ok (.aload_n 0, 1) := dk_42 (dk_at dksJ4_getChar_1 8 rfl rfl)
theorem dJ4_getChar_33 : decode cJ4_getChar 33 = .ok (.iload_n 1, 1) := dk_27 (dk_at dksJ4_getChar_1 9 rfl rfl)
theorem dJ4_getChar_34 : decode cJ4_getChar 34 = .ok (.iinc 1 1, 3) := dk_132 1 1 (dk_at dksJ4_getChar_1 10 rfl rfl)
theorem dJ4_getChar_37 : decode cJ4_getChar 37 = .ok (.baload, 1) := dk_51 (dk_at dksJ4_getChar_1 13 rfl rfl)
theorem dJ4_getChar_38 : decode cJ4_getChar 38 = .ok (.sipush 255, 3) := dk_17 0 255 (dk_at dksJ4_getChar_1 14 rfl rfl)
theorem dJ4_getChar_41 : decode cJ4_getChar 41 = .ok (.iand, 1) := dk_126 (dk_at dksJ4_getChar_1 17 rfl rfl)
theorem dJ4_getChar_42 : decode cJ4_getChar 42 = .ok (.getstatic 59, 3) := dk_178 0 59 (dk_at dksJ4_getChar_1 18 rfl rfl)
theorem dJ4_getChar_45 : decode cJ4_getChar 45 = .ok (.ishl, 1) := dk_120 (dk_at dksJ4_getChar_1 21 rfl rfl)
theorem dJ4_getChar_46 : decode cJ4_getChar 46 = .ok (.aload_n 0, 1) := dk_42 (dk_at dksJ4_getChar_1 22 rfl rfl)
theorem dJ4_getChar_47 : decode cJ4_getChar 47 = .ok (.iload_n 1, 1) := dk_27 (dk_at dksJ4_getChar_1 23 rfl rfl)
theorem dJ4_getChar_48 : decode cJ4_getChar 48 = .ok (.baload, 1) := dk_51 (dk_at dksJ4_getChar_2 0 rfl rfl)
theorem dJ4_getChar_49 : decode cJ4_getChar 49 = .ok (.sipush 255, 3) := dk_17 0 255 (dk_at dksJ4_getChar_2 1 rfl rfl)
theorem dJ4_getChar_52 : decode cJ4_getChar 52 = .ok (.iand, 1) := dk_126 (dk_at dksJ4_getChar_2 4 rfl rfl)
theorem dJ4_getChar_53 : decode cJ4_getChar 53 = .ok (.getstatic 63, 3) := dk_178 0 63 (dk_at dksJ4_getChar_2 5 rfl rfl)
theorem dJ4_getChar_56 : decode cJ4_getChar 56 = .ok (.ishl, 1) := dk_120 (dk_at dksJ4_getChar_2 8 rfl rfl)
theorem dJ4_getChar_57 : decode cJ4_getChar 57 = .ok (.ior, 1) := dk_128 (dk_at dksJ4_getChar_2 9 rfl rfl)
theorem dJ4_getChar_58 : decode cJ4_getChar 58 = .ok (.i2c, 1) := dk_146 (dk_at dksJ4_getChar_2 10 rfl rfl)
theorem dJ4_getChar_59 : decode cJ4_getChar 59 = .ok (.ireturn, 1) := dk_172 (dk_at dksJ4_getChar_2 11 rfl rfl)
theorem q86 : (Jvm.Cond.initialized "java/lang/StringUTF16") ∈ lw_all := lw_g (lw_at lw_m1 13 rfl) rfl
theorem q569 : (Jvm.Cond.static ({ cls := "java/lang/StringUTF16", name := "charAt", desc := "([BI)C" } : Jvm.MethodName)) ∈ lw_all := lw_g (lw_at lw_m3 16 rfl) rfl
theorem q570 : (Jvm.Cond.code ({ cls := "java/lang/StringUTF16", name := "charAt", desc := "([BI)C" } : Jvm.MethodName) prog_31_method_83_code (2 : Nat) (Option.some Jvm.ClassFile.FieldType.char)) ∈ lw_all := lw_g (lw_at lw_m3 17 rfl) rfl
theorem q571 : (Jvm.Cond.methodLink "java/lang/StringUTF16" (67 : Nat) ({ cls := "java/lang/StringUTF16", name := "checkIndex", desc := "(I[B)V" } : Jvm.MethodName)) ∈ lw_all := lw_g (lw_at lw_m3 18 rfl) rfl
theorem q572 : (Jvm.Cond.static ({ cls := "java/lang/StringUTF16", name := "checkIndex", desc := "(I[B)V" } : Jvm.MethodName)) ∈ lw_all := lw_g (lw_at lw_m3 19 rfl) rfl
theorem q573 : (Jvm.Cond.code ({ cls := "java/lang/StringUTF16", name := "checkIndex", desc := "(I[B)V" } : Jvm.MethodName) prog_31_method_91_code (2 : Nat) (Option.none : Option Jvm.ClassFile.FieldType)) ∈ lw_all := lw_g (lw_at lw_m3 20 rfl) rfl
theorem q574 : (Jvm.Cond.methodLink "java/lang/StringUTF16" (48 : Nat) ({ cls := "java/lang/StringUTF16", name := "length", desc := "([B)I" } : Jvm.MethodName)) ∈ lw_all := lw_g (lw_at lw_m3 21 rfl) rfl
theorem q575 : (Jvm.Cond.static ({ cls := "java/lang/StringUTF16", name := "length", desc := "([B)I" } : Jvm.MethodName)) ∈ lw_all := lw_g (lw_at lw_m3 22 rfl) rfl
theorem q576 : (Jvm.Cond.code ({ cls := "java/lang/StringUTF16", name := "length", desc := "([B)I" } : Jvm.MethodName) prog_31_method_6_code (1 : Nat) (Option.some Jvm.ClassFile.FieldType.int)) ∈ lw_all := lw_g (lw_at lw_m3 23 rfl) rfl
theorem q577 : (Jvm.Cond.methodLink "java/lang/StringUTF16" (414 : Nat) ({ cls := "java/lang/String", name := "checkIndex", desc := "(II)V" } : Jvm.MethodName)) ∈ lw_all := lw_g (lw_at lw_m3 24 rfl) rfl
theorem q578 : (Jvm.Cond.methodLink "java/lang/StringUTF16" (71 : Nat) ({ cls := "java/lang/StringUTF16", name := "getChar", desc := "([BI)C" } : Jvm.MethodName)) ∈ lw_all := lw_g (lw_at lw_m3 25 rfl) rfl
theorem q579 : (Jvm.Cond.static ({ cls := "java/lang/StringUTF16", name := "getChar", desc := "([BI)C" } : Jvm.MethodName)) ∈ lw_all := lw_g (lw_at lw_m3 26 rfl) rfl
theorem q580 : (Jvm.Cond.code ({ cls := "java/lang/StringUTF16", name := "getChar", desc := "([BI)C" } : Jvm.MethodName) prog_31_method_5_code (2 : Nat) (Option.some Jvm.ClassFile.FieldType.char)) ∈ lw_all := lw_g (lw_at lw_m3 27 rfl) rfl
theorem q581 : (Jvm.Cond.fieldLink "java/lang/StringUTF16" (44 : Nat) "java/lang/StringUTF16" "$assertionsDisabled" "Z") ∈ lw_all := lw_g (lw_at lw_m3 28 rfl) rfl
theorem q582 : (Jvm.Cond.laysStatic "java/lang/StringUTF16" "$assertionsDisabled" "Z") ∈ lw_tbl := lw_at lw_m3 29 rfl
theorem q583 : (Jvm.Cond.fieldLink "java/lang/StringUTF16" (59 : Nat) "java/lang/StringUTF16" "HI_BYTE_SHIFT" "I") ∈ lw_all := lw_g (lw_at lw_m3 30 rfl) rfl
theorem q584 : (Jvm.Cond.laysStatic "java/lang/StringUTF16" "HI_BYTE_SHIFT" "I") ∈ lw_tbl := lw_at lw_m3 31 rfl
theorem q585 : (Jvm.Cond.fieldLink "java/lang/StringUTF16" (63 : Nat) "java/lang/StringUTF16" "LO_BYTE_SHIFT" "I") ∈ lw_all := lw_g (lw_at lw_m3 32 rfl) rfl
theorem q586 : (Jvm.Cond.laysStatic "java/lang/StringUTF16" "LO_BYTE_SHIFT" "I") ∈ lw_tbl := lw_at lw_m3 33 rfl

/-! java/lang/Throwable -/
set_option maxRecDepth 100000
def RJ5 : String := "java/lang/Throwable"
def TJ5 : u_T := fun k => match k with
  | 0 => ("java/lang/Throwable", "cause", "Ljava/lang/Throwable;", false)
  | 1 => ("java/lang/Throwable", "stackTrace", "[Ljava/lang/StackTraceElement;", false)
  | 2 => ("java/lang/Throwable", "suppressedExceptions", "Ljava/util/List;", false)
  | 3 => ("java/lang/Throwable", "detailMessage", "Ljava/lang/String;", false)
  | _ => ("java/lang/Throwable", "backtrace", "Ljava/lang/Object;", false)
def tyJ5 : Nat → FieldType := fun k => match k with
  | 0 => .object "java/lang/Throwable"
  | 1 => .array (.object "java/lang/StackTraceElement")
  | 2 => .object "java/util/List"
  | 3 => .object "java/lang/String"
  | _ => .object "java/lang/Object"
abbrev wsJ50 : List Cond := u_ws RJ5 TJ5 5
theorem nmJ5 : ∀ a, a < 5 → ∀ b, b < 5 → a ≠ b → (TJ5 a).2.1 ≠ (TJ5 b).2.1 := by decide +kernel
theorem tyJ5_ok : ∀ k, k < 5 → parseFieldDescriptor (TJ5 k).2.2.1 = some (tyJ5 k) := by decide +kernel
abbrev cJ5_init : ByteArray := prog_33_method_1_code
def yJ5_init : MethodName := ⟨RJ5, "<init>", "()V"⟩
def dkwJ5_init_1 : List UInt8 := [182, 0, 27, 87, 177]
abbrev dktJ5_init_1 : List UInt8 := dkwJ5_init_1 ++ []
def dkwJ5_init_0 : List UInt8 := [42, 183, 0, 1, 42, 42, 181, 0, 7, 42, 178, 0, 13, 181, 0, 17, 42, 178, 0, 20, 181, 0, 24, 42]
abbrev dktJ5_init_0 : List UInt8 := dkwJ5_init_0 ++ dktJ5_init_1
theorem dksJ5_init_0 : cJ5_init.data.toList.drop 0 = dktJ5_init_0 := by decide +kernel
theorem dksJ5_init_1 : cJ5_init.data.toList.drop 24 = dktJ5_init_1 := dk_seg dksJ5_init_0 24 rfl rfl
theorem dJ5_init_0 : decode cJ5_init 0 = .ok (.aload_n 0, 1) := dk_42 (dk_at dksJ5_init_0 0 rfl rfl)
theorem dJ5_init_1 : decode cJ5_init 1 = .ok (.invokespecial 1, 3) := dk_183 0 1 (dk_at dksJ5_init_0 1 rfl rfl)
theorem dJ5_init_4 : decode cJ5_init 4 = .ok (.aload_n 0, 1) := dk_42 (dk_at dksJ5_init_0 4 rfl rfl)
theorem dJ5_init_5 : decode cJ5_init 5 = .ok (.aload_n 0, 1) := dk_42 (dk_at dksJ5_init_0 5 rfl rfl)
theorem dJ5_init_6 : decode cJ5_init 6 = .ok (.putfield 7, 3) := dk_181 0 7 (dk_at dksJ5_init_0 6 rfl rfl)
theorem dJ5_init_9 : decode cJ5_init 9 = .ok (.aload_n 0, 1) := dk_42 (dk_at dksJ5_init_0 9 rfl rfl)
theorem dJ5_init_10 : decode cJ5_init 10 = .ok (.getstatic 13, 3) := dk_178 0 13 (dk_at dksJ5_init_0 10 rfl rfl)
theorem dJ5_init_13 : decode cJ5_init 13 = .ok (.putfield 17, 3) := dk_181 0 17 (dk_at dksJ5_init_0 13 rfl rfl)
theorem dJ5_init_16 : decode cJ5_init 16 = .ok (.aload_n 0, 1) := dk_42 (dk_at dksJ5_init_0 16 rfl rfl)
theorem dJ5_init_17 : decode cJ5_init 17 = .ok (.getstatic 20, 3) := dk_178 0 20 (dk_at dksJ5_init_0 17 rfl rfl)
theorem dJ5_init_20 : decode cJ5_init 20 = .ok (.putfield 24, 3) := dk_181 0 24 (dk_at dksJ5_init_0 20 rfl rfl)
theorem dJ5_init_23 : decode cJ5_init 23 = .ok (.aload_n 0, 1) := dk_42 (dk_at dksJ5_init_0 23 rfl rfl)
theorem dJ5_init_24 : decode cJ5_init 24 = .ok (.invokevirtual 27, 3) := dk_182 0 27 (dk_at dksJ5_init_1 0 rfl rfl)
theorem dJ5_init_27 : decode cJ5_init 27 = .ok (.pop, 1) := dk_87 (dk_at dksJ5_init_1 3 rfl rfl)
theorem dJ5_init_28 : decode cJ5_init 28 = .ok (.return_, 1) := dk_177 (dk_at dksJ5_init_1 4 rfl rfl)
abbrev cJ5_init_2 : ByteArray := prog_33_method_5_code
def yJ5_init_2 : MethodName := ⟨RJ5, "<init>", "(Ljava/lang/String;Ljava/lang/Throwable;ZZ)V"⟩
def dkwJ5_init_2_2 : List UInt8 := [44, 181, 0, 7, 29, 154, 0, 8, 42, 1, 181, 0, 24, 177]
abbrev dktJ5_init_2_2 : List UInt8 := dkwJ5_init_2_2 ++ []
def dkwJ5_init_2_1 : List UInt8 := [21, 4, 153, 0, 11, 42, 182, 0, 27, 87, 167, 0, 8, 42, 1, 181, 0, 17, 42, 43, 181, 0, 31, 42]
abbrev dktJ5_init_2_1 : List UInt8 := dkwJ5_init_2_1 ++ dktJ5_init_2_2
def dkwJ5_init_2_0 : List UInt8 := [42, 183, 0, 1, 42, 42, 181, 0, 7, 42, 178, 0, 13, 181, 0, 17, 42, 178, 0, 20, 181, 0, 24]
abbrev dktJ5_init_2_0 : List UInt8 := dkwJ5_init_2_0 ++ dktJ5_init_2_1
theorem dksJ5_init_2_0 : cJ5_init_2.data.toList.drop 0 = dktJ5_init_2_0 := by decide +kernel
theorem dksJ5_init_2_1 : cJ5_init_2.data.toList.drop 23 = dktJ5_init_2_1 := dk_seg dksJ5_init_2_0 23 rfl rfl
theorem dksJ5_init_2_2 : cJ5_init_2.data.toList.drop 47 = dktJ5_init_2_2 := dk_seg dksJ5_init_2_1 24 rfl rfl
theorem dJ5_init_2_0 : decode cJ5_init_2 0 = .ok (.aload_n 0, 1) := dk_42 (dk_at dksJ5_init_2_0 0 rfl rfl)
theorem dJ5_init_2_1 : decode cJ5_init_2 1 = .ok (.invokespecial 1, 3) := dk_183 0 1 (dk_at dksJ5_init_2_0 1 rfl rfl)
theorem dJ5_init_2_4 : decode cJ5_init_2 4 = .ok (.aload_n 0, 1) := dk_42 (dk_at dksJ5_init_2_0 4 rfl rfl)
theorem dJ5_init_2_5 : decode cJ5_init_2 5 = .ok (.aload_n 0, 1) := dk_42 (dk_at dksJ5_init_2_0 5 rfl rfl)
theorem dJ5_init_2_6 : decode cJ5_init_2 6 = .ok (.putfield 7, 3) := dk_181 0 7 (dk_at dksJ5_init_2_0 6 rfl rfl)
theorem dJ5_init_2_9 : decode cJ5_init_2 9 = .ok (.aload_n 0, 1) := dk_42 (dk_at dksJ5_init_2_0 9 rfl rfl)
theorem dJ5_init_2_10 : decode cJ5_init_2 10 = .ok (.getstatic 13, 3) := dk_178 0 13 (dk_at dksJ5_init_2_0 10 rfl rfl)
theorem dJ5_init_2_13 : decode cJ5_init_2 13 = .ok (.putfield 17, 3) := dk_181 0 17 (dk_at dksJ5_init_2_0 13 rfl rfl)
theorem dJ5_init_2_16 : decode cJ5_init_2 16 = .ok (.aload_n 0, 1) := dk_42 (dk_at dksJ5_init_2_0 16 rfl rfl)
theorem dJ5_init_2_17 : decode cJ5_init_2 17 = .ok (.getstatic 20, 3) := dk_178 0 20 (dk_at dksJ5_init_2_0 17 rfl rfl)
theorem dJ5_init_2_20 : decode cJ5_init_2 20 = .ok (.putfield 24, 3) := dk_181 0 24 (dk_at dksJ5_init_2_0 20 rfl rfl)
theorem dJ5_init_2_23 : decode cJ5_init_2 23 = .ok (.iload 4, 2) := dk_21 4 (dk_at dksJ5_init_2_1 0 rfl rfl)
theorem dJ5_init_2_25 : decode cJ5_init_2 25 = .ok (.ifCond .eq 11, 3) := dk_153 0 11 (dk_at dksJ5_init_2_1 2 rfl rfl)
theorem dJ5_init_2_28 : decode cJ5_init_2 28 = .ok (.aload_n 0, 1) := dk_42 (dk_at dksJ5_init_2_1 5 rfl rfl)
theorem dJ5_init_2_29 : decode cJ5_init_2 29 = .ok (.invokevirtual 27, 3) := dk_182 0 27 (dk_at dksJ5_init_2_1 6 rfl rfl)
theorem dJ5_init_2_32 : decode cJ5_init_2 32 = .ok (.pop, 1) := dk_87 (dk_at dksJ5_init_2_1 9 rfl rfl)
theorem dJ5_init_2_33 : decode cJ5_init_2 33 = .ok (.goto 8, 3) := dk_167 0 8 (dk_at dksJ5_init_2_1 10 rfl rfl)
theorem dJ5_init_2_36 : decode cJ5_init_2 36 = .ok (.aload_n 0, 1) := dk_42 (dk_at dksJ5_init_2_1 13 rfl rfl)
theorem dJ5_init_2_37 : decode cJ5_init_2 37 = .ok (.aconst_null, 1) := dk_1 (dk_at dksJ5_init_2_1 14 rfl rfl)
theorem dJ5_init_2_38 : decode cJ5_init_2 38 = .ok (.putfield 17, 3) := dk_181 0 17 (dk_at dksJ5_init_2_1 15 rfl rfl)
theorem dJ5_init_2_41 : decode cJ5_init_2 41 = .ok (.aload_n 0, 1) := dk_42 (dk_at dksJ5_init_2_1 18 rfl rfl)
theorem dJ5_init_2_42 : decode cJ5_init_2 42 = .ok (.aload_n 1, 1) := dk_43 (dk_at dksJ5_init_2_1 19 rfl rfl)
theorem dJ5_init_2_43 : decode cJ5_init_2 43 = .ok (.putfield 31, 3) := dk_181 0 31 (dk_at dksJ5_init_2_1 20 rfl rfl)
theorem dJ5_init_2_46 : decode cJ5_init_2 46 = .ok (.aload_n 0, 1) := dk_42 (dk_at dksJ5_init_2_1 23 rfl rfl)
theorem dJ5_init_2_47 : decode cJ5_init_2 47 = .ok (.aload_n 2, 1) := dk_44 (dk_at dksJ5_init_2_2 0 rfl rfl)
theorem dJ5_init_2_48 : decode cJ5_init_2 48 = .ok (.putfield 7, 3) := dk_181 0 7 (dk_at dksJ5_init_2_2 1 rfl rfl)
theorem dJ5_init_2_51 : decode cJ5_init_2 51 = .ok (.iload_n 3, 1) := dk_29 (dk_at dksJ5_init_2_2 4 rfl rfl)
theorem dJ5_init_2_52 : decode cJ5_init_2 52 = .ok (.ifCond .ne 8, 3) := dk_154 0 8 (dk_at dksJ5_init_2_2 5 rfl rfl)
theorem dJ5_init_2_55 : decode cJ5_init_2 55 = .ok (.aload_n 0, 1) := dk_42 (dk_at dksJ5_init_2_2 8 rfl rfl)
theorem dJ5_init_2_56 : decode cJ5_init_2 56 = .ok (.aconst_null, 1) := dk_1 (dk_at dksJ5_init_2_2 9 rfl rfl)
theorem dJ5_init_2_57 : decode cJ5_init_2 57 = .ok (.putfield 24, 3) := dk_181 0 24 (dk_at dksJ5_init_2_2 10 rfl rfl)
theorem dJ5_init_2_60 : decode cJ5_init_2 60 = .ok (.return_, 1) := dk_177 (dk_at dksJ5_init_2_2 13 rfl rfl)
theorem q87 : (Jvm.Cond.initialized "java/lang/Throwable") ∈ lw_all := lw_g (lw_at lw_m1 14 rfl) rfl
theorem q609 : (Jvm.Cond.declares ({ cls := "java/lang/Throwable", name := "<init>", desc := "()V" } : Jvm.MethodName)) ∈ lw_tbl := lw_at lw_m3 56 rfl
theorem q610 : (Jvm.Cond.declares ({ cls := "java/lang/Throwable", name := "<init>", desc := "(Ljava/lang/String;)V" } : Jvm.MethodName)) ∈ lw_tbl := lw_at lw_m3 57 rfl
theorem q614 : (Jvm.Cond.lays "java/lang/Throwable" "java/lang/Throwable" "cause" "Ljava/lang/Throwable;") ∈ lw_all := lw_g (lw_at lw_m3 61 rfl) rfl
theorem q616 : (Jvm.Cond.lays "java/lang/Throwable" "java/lang/Throwable" "stackTrace" "[Ljava/lang/StackTraceElement;") ∈ lw_all := lw_g (lw_at lw_m3 63 rfl) rfl
theorem q618 : (Jvm.Cond.lays "java/lang/Throwable" "java/lang/Throwable" "suppressedExceptions" "Ljava/util/List;") ∈ lw_all := lw_g (lw_at lw_m3 65 rfl) rfl
theorem q620 : (Jvm.Cond.lays "java/lang/Throwable" "java/lang/Throwable" "detailMessage" "Ljava/lang/String;") ∈ lw_all := lw_g (lw_at lw_m3 67 rfl) rfl
theorem q622 : (Jvm.Cond.lays "java/lang/Throwable" "java/lang/Throwable" "backtrace" "Ljava/lang/Object;") ∈ lw_all := lw_g (lw_at lw_m3 69 rfl) rfl
theorem q623 : (Jvm.Cond.fieldLink "java/lang/Throwable" (198 : Nat) "java/lang/Throwable" "backtrace" "Ljava/lang/Object;") ∈ lw_all := lw_g (lw_at lw_m3 70 rfl) rfl
theorem q624 : (Jvm.Cond.superclass "java/lang/Throwable" "java/lang/Object") ∈ lw_all := lw_g (lw_at lw_m3 71 rfl) rfl
theorem q625 : (Jvm.Cond.instanceMethod ({ cls := "java/lang/Throwable", name := "<init>", desc := "()V" } : Jvm.MethodName)) ∈ lw_all := lw_g (lw_at lw_m3 72 rfl) rfl
theorem q626 : (Jvm.Cond.code ({ cls := "java/lang/Throwable", name := "<init>", desc := "()V" } : Jvm.MethodName) prog_33_method_1_code (1 : Nat) (Option.none : Option Jvm.ClassFile.FieldType)) ∈ lw_all := lw_g (lw_at lw_m3 73 rfl) rfl
theorem q627 : (Jvm.Cond.methodLink "java/lang/Throwable" (1 : Nat) ({ cls := "java/lang/Object", name := "<init>", desc := "()V" } : Jvm.MethodName)) ∈ lw_all := lw_g (lw_at lw_m3 74 rfl) rfl
theorem q628 : (Jvm.Cond.fieldLink "java/lang/Throwable" (13 : Nat) "java/lang/Throwable" "UNASSIGNED_STACK" "[Ljava/lang/StackTraceElement;") ∈ lw_all := lw_g (lw_at lw_m3 75 rfl) rfl
theorem q629 : (Jvm.Cond.laysStatic "java/lang/Throwable" "UNASSIGNED_STACK" "[Ljava/lang/StackTraceElement;") ∈ lw_tbl := lw_at lw_m3 76 rfl
theorem q630 : (Jvm.Cond.fieldLink "java/lang/Throwable" (20 : Nat) "java/lang/Throwable" "SUPPRESSED_SENTINEL" "Ljava/util/List;") ∈ lw_all := lw_g (lw_at lw_m3 77 rfl) rfl
theorem q631 : (Jvm.Cond.laysStatic "java/lang/Throwable" "SUPPRESSED_SENTINEL" "Ljava/util/List;") ∈ lw_tbl := lw_at lw_m3 78 rfl
theorem q632 : (Jvm.Cond.methodLink "java/lang/Throwable" (27 : Nat) ({ cls := "java/lang/Throwable", name := "fillInStackTrace", desc := "()Ljava/lang/Throwable;" } : Jvm.MethodName)) ∈ lw_all := lw_g (lw_at lw_m3 79 rfl) rfl
theorem q633 : (Jvm.Cond.instanceMethod ({ cls := "java/lang/Throwable", name := "fillInStackTrace", desc := "()Ljava/lang/Throwable;" } : Jvm.MethodName)) ∈ lw_all := lw_g (lw_at lw_m3 80 rfl) rfl
theorem q634 : (Jvm.Cond.sameMethod "java/lang/Throwable" "java/lang/Throwable" "fillInStackTrace" "()Ljava/lang/Throwable;") ∈ lw_all := lw_g (lw_at lw_m3 81 rfl) rfl
theorem q635 : (Jvm.Cond.codeSync ({ cls := "java/lang/Throwable", name := "fillInStackTrace", desc := "()Ljava/lang/Throwable;" } : Jvm.MethodName) prog_33_method_18_code (1 : Nat) (Option.some (Jvm.ClassFile.FieldType.object "java/lang/Throwable"))) ∈ lw_all := lw_g (lw_at lw_m3 82 rfl) rfl
theorem q636 : (Jvm.Cond.methodLink "java/lang/Throwable" (202 : Nat) ({ cls := "java/lang/Throwable", name := "fillInStackTrace", desc := "(I)Ljava/lang/Throwable;" } : Jvm.MethodName)) ∈ lw_all := lw_g (lw_at lw_m3 83 rfl) rfl
theorem q637 : (Jvm.Cond.privateMethod ({ cls := "java/lang/Throwable", name := "fillInStackTrace", desc := "(I)Ljava/lang/Throwable;" } : Jvm.MethodName)) ∈ lw_tbl := lw_at lw_m3 84 rfl
theorem q638 : (Jvm.Cond.instanceMethod ({ cls := "java/lang/Throwable", name := "fillInStackTrace", desc := "(I)Ljava/lang/Throwable;" } : Jvm.MethodName)) ∈ lw_all := lw_g (lw_at lw_m3 85 rfl) rfl
theorem q639 : (Jvm.Cond.instantiable "java/lang/Throwable" (6 : Nat)) ∈ lw_all := lw_g (lw_at lw_m3 86 rfl) rfl
theorem q640 : (Jvm.Cond.native ({ cls := "java/lang/Throwable", name := "fillInStackTrace", desc := "(I)Ljava/lang/Throwable;" } : Jvm.MethodName)) ∈ lw_all := lw_g (lw_at lw_m3 87 rfl) rfl
theorem q651 : (Jvm.Cond.instanceMethod ({ cls := "java/lang/Throwable", name := "<init>", desc := "(Ljava/lang/String;Ljava/lang/Throwable;ZZ)V" } : Jvm.MethodName)) ∈ lw_all := lw_g (lw_at lw_m3 98 rfl) rfl
theorem q652 : (Jvm.Cond.code ({ cls := "java/lang/Throwable", name := "<init>", desc := "(Ljava/lang/String;Ljava/lang/Throwable;ZZ)V" } : Jvm.MethodName) prog_33_method_5_code (5 : Nat) (Option.none : Option Jvm.ClassFile.FieldType)) ∈ lw_all := lw_g (lw_at lw_m3 99 rfl) rfl
theorem q657 : (Jvm.Cond.fieldLink "java/lang/Throwable" (198 : Nat) "java/lang/Throwable" "backtrace" "Ljava/lang/Object;") ∈ lw_all := lw_g (lw_at lw_m3 104 rfl) rfl
theorem q658 : (Jvm.Cond.fieldLink "java/lang/Throwable" (31 : Nat) "java/lang/Throwable" "detailMessage" "Ljava/lang/String;") ∈ lw_all := lw_g (lw_at lw_m3 105 rfl) rfl
theorem q659 : (Jvm.Cond.fieldLink "java/lang/Throwable" (7 : Nat) "java/lang/Throwable" "cause" "Ljava/lang/Throwable;") ∈ lw_all := lw_g (lw_at lw_m3 106 rfl) rfl
theorem q660 : (Jvm.Cond.fieldLink "java/lang/Throwable" (17 : Nat) "java/lang/Throwable" "stackTrace" "[Ljava/lang/StackTraceElement;") ∈ lw_all := lw_g (lw_at lw_m3 107 rfl) rfl
theorem q661 : (Jvm.Cond.fieldLink "java/lang/Throwable" (24 : Nat) "java/lang/Throwable" "suppressedExceptions" "Ljava/util/List;") ∈ lw_all := lw_g (lw_at lw_m3 108 rfl) rfl
theorem q666 : (Jvm.Cond.soleField "java/lang/Throwable" "backtrace") ∈ lw_all := lw_g (lw_at lw_m3 113 rfl) rfl
theorem q667 : (Jvm.Cond.soleField "java/lang/Throwable" "detailMessage") ∈ lw_all := lw_g (lw_at lw_m3 114 rfl) rfl
theorem q668 : (Jvm.Cond.soleField "java/lang/Throwable" "cause") ∈ lw_all := lw_g (lw_at lw_m3 115 rfl) rfl
theorem q669 : (Jvm.Cond.soleField "java/lang/Throwable" "stackTrace") ∈ lw_all := lw_g (lw_at lw_m3 116 rfl) rfl
theorem q671 : (Jvm.Cond.soleField "java/lang/Throwable" "depth") ∈ lw_all := lw_g (lw_at lw_m3 118 rfl) rfl
theorem q672 : (Jvm.Cond.soleField "java/lang/Throwable" "suppressedExceptions") ∈ lw_all := lw_g (lw_at lw_m3 119 rfl) rfl
theorem q1553 : (Jvm.Cond.sameMethod "java/lang/Throwable" "java/lang/Throwable" "fillInStackTrace" "(I)Ljava/lang/Throwable;") ∈ lw_all := lw_g (lw_at lw_m7 40 rfl) rfl
theorem in_J5 : ∀ w ∈ wsJ50, w ∈ lw_all := lw_in wsJ50 [614, 616, 618, 620, 622] (by decide +kernel) (by decide +kernel)

/-! java/lang/Exception -/
set_option maxRecDepth 100000
def RJ6 : String := "java/lang/Exception"
abbrev cJ6_init : ByteArray := prog_25_method_5_code
def yJ6_init : MethodName := ⟨RJ6, "<init>", "(Ljava/lang/String;Ljava/lang/Throwable;ZZ)V"⟩
def dkwJ6_init_0 : List UInt8 := [42, 43, 44, 29, 21, 4, 183, 0, 16, 177]
abbrev dktJ6_init_0 : List UInt8 := dkwJ6_init_0 ++ []
theorem dksJ6_init_0 : cJ6_init.data.toList.drop 0 = dktJ6_init_0 := by decide +kernel
theorem dJ6_init_0 : decode cJ6_init 0 = .ok (.aload_n 0, 1) := dk_42 (dk_at dksJ6_init_0 0 rfl rfl)
theorem dJ6_init_1 : decode cJ6_init 1 = .ok (.aload_n 1, 1) := dk_43 (dk_at dksJ6_init_0 1 rfl rfl)
theorem dJ6_init_2 : decode cJ6_init 2 = .ok (.aload_n 2, 1) := dk_44 (dk_at dksJ6_init_0 2 rfl rfl)
theorem dJ6_init_3 : decode cJ6_init 3 = .ok (.iload_n 3, 1) := dk_29 (dk_at dksJ6_init_0 3 rfl rfl)
theorem dJ6_init_4 : decode cJ6_init 4 = .ok (.iload 4, 2) := dk_21 4 (dk_at dksJ6_init_0 4 rfl rfl)
theorem dJ6_init_6 : decode cJ6_init 6 = .ok (.invokespecial 16, 3) := dk_183 0 16 (dk_at dksJ6_init_0 6 rfl rfl)
theorem dJ6_init_9 : decode cJ6_init 9 = .ok (.return_, 1) := dk_177 (dk_at dksJ6_init_0 9 rfl rfl)
theorem q88 : (Jvm.Cond.initialized "java/lang/Exception") ∈ lw_all := lw_g (lw_at lw_m1 15 rfl) rfl
theorem q607 : (Jvm.Cond.declares ({ cls := "java/lang/Exception", name := "<init>", desc := "()V" } : Jvm.MethodName)) ∈ lw_tbl := lw_at lw_m3 54 rfl
theorem q608 : (Jvm.Cond.declares ({ cls := "java/lang/Exception", name := "<init>", desc := "(Ljava/lang/String;)V" } : Jvm.MethodName)) ∈ lw_tbl := lw_at lw_m3 55 rfl
theorem q648 : (Jvm.Cond.instanceMethod ({ cls := "java/lang/Exception", name := "<init>", desc := "(Ljava/lang/String;Ljava/lang/Throwable;ZZ)V" } : Jvm.MethodName)) ∈ lw_all := lw_g (lw_at lw_m3 95 rfl) rfl
theorem q649 : (Jvm.Cond.code ({ cls := "java/lang/Exception", name := "<init>", desc := "(Ljava/lang/String;Ljava/lang/Throwable;ZZ)V" } : Jvm.MethodName) prog_25_method_5_code (5 : Nat) (Option.none : Option Jvm.ClassFile.FieldType)) ∈ lw_all := lw_g (lw_at lw_m3 96 rfl) rfl
theorem q650 : (Jvm.Cond.methodLink "java/lang/Exception" (16 : Nat) ({ cls := "java/lang/Throwable", name := "<init>", desc := "(Ljava/lang/String;Ljava/lang/Throwable;ZZ)V" } : Jvm.MethodName)) ∈ lw_all := lw_g (lw_at lw_m3 97 rfl) rfl

/-! java/lang/RuntimeException -/
set_option maxRecDepth 100000
def RJ7 : String := "java/lang/RuntimeException"
abbrev cJ7_init : ByteArray := prog_28_method_5_code
def yJ7_init : MethodName := ⟨RJ7, "<init>", "(Ljava/lang/String;Ljava/lang/Throwable;ZZ)V"⟩
def dkwJ7_init_0 : List UInt8 := [42, 43, 44, 29, 21, 4, 183, 0, 16, 177]
abbrev dktJ7_init_0 : List UInt8 := dkwJ7_init_0 ++ []
theorem dksJ7_init_0 : cJ7_init.data.toList.drop 0 = dktJ7_init_0 := by decide +kernel
theorem dJ7_init_0 : decode cJ7_init 0 = .ok (.aload_n 0, 1) := dk_42 (dk_at dksJ7_init_0 0 rfl rfl)
theorem dJ7_init_1 : decode cJ7_init 1 = .ok (.aload_n 1, 1) := dk_43 (dk_at dksJ7_init_0 1 rfl rfl)
theorem dJ7_init_2 : decode cJ7_init 2 = .ok (.aload_n 2, 1) := dk_44 (dk_at dksJ7_init_0 2 rfl rfl)
theorem dJ7_init_3 : decode cJ7_init 3 = .ok (.iload_n 3, 1) := dk_29 (dk_at dksJ7_init_0 3 rfl rfl)
theorem dJ7_init_4 : decode cJ7_init 4 = .ok (.iload 4, 2) := dk_21 4 (dk_at dksJ7_init_0 4 rfl rfl)
theorem dJ7_init_6 : decode cJ7_init 6 = .ok (.invokespecial 16, 3) := dk_183 0 16 (dk_at dksJ7_init_0 6 rfl rfl)
theorem dJ7_init_9 : decode cJ7_init 9 = .ok (.return_, 1) := dk_177 (dk_at dksJ7_init_0 9 rfl rfl)
theorem q89 : (Jvm.Cond.initialized "java/lang/RuntimeException") ∈ lw_all := lw_g (lw_at lw_m1 16 rfl) rfl
theorem q605 : (Jvm.Cond.declares ({ cls := "java/lang/RuntimeException", name := "<init>", desc := "()V" } : Jvm.MethodName)) ∈ lw_tbl := lw_at lw_m3 52 rfl
theorem q606 : (Jvm.Cond.declares ({ cls := "java/lang/RuntimeException", name := "<init>", desc := "(Ljava/lang/String;)V" } : Jvm.MethodName)) ∈ lw_tbl := lw_at lw_m3 53 rfl
theorem q645 : (Jvm.Cond.instanceMethod ({ cls := "java/lang/RuntimeException", name := "<init>", desc := "(Ljava/lang/String;Ljava/lang/Throwable;ZZ)V" } : Jvm.MethodName)) ∈ lw_all := lw_g (lw_at lw_m3 92 rfl) rfl
theorem q646 : (Jvm.Cond.code ({ cls := "java/lang/RuntimeException", name := "<init>", desc := "(Ljava/lang/String;Ljava/lang/Throwable;ZZ)V" } : Jvm.MethodName) prog_28_method_5_code (5 : Nat) (Option.none : Option Jvm.ClassFile.FieldType)) ∈ lw_all := lw_g (lw_at lw_m3 93 rfl) rfl
theorem q647 : (Jvm.Cond.methodLink "java/lang/RuntimeException" (16 : Nat) ({ cls := "java/lang/Exception", name := "<init>", desc := "(Ljava/lang/String;Ljava/lang/Throwable;ZZ)V" } : Jvm.MethodName)) ∈ lw_all := lw_g (lw_at lw_m3 94 rfl) rfl

/-! java/lang/Integer -/
set_option maxRecDepth 100000
def RJ8 : String := "java/lang/Integer"
abbrev cJ8_bitCount : ByteArray := prog_26_method_49_code
def yJ8_bitCount : MethodName := ⟨RJ8, "bitCount", "(I)I"⟩
def dkwJ8_bitCount_2 : List UInt8 := [26, 16, 63, 126, 172]
abbrev dktJ8_bitCount_2 : List UInt8 := dkwJ8_bitCount_2 ++ []
def dkwJ8_bitCount_1 : List UInt8 := [26, 26, 7, 124, 96, 19, 1, 11, 126, 59, 26, 26, 16, 8, 124, 96, 59, 26, 26, 16, 16, 124, 96, 59]
abbrev dktJ8_bitCount_1 : List UInt8 := dkwJ8_bitCount_1 ++ dktJ8_bitCount_2
def dkwJ8_bitCount_0 : List UInt8 := [26, 26, 4, 124, 19, 1, 9, 126, 100, 59, 26, 19, 1, 10, 126, 26, 5, 124, 19, 1, 10, 126, 96, 59]
abbrev dktJ8_bitCount_0 : List UInt8 := dkwJ8_bitCount_0 ++ dktJ8_bitCount_1
theorem dksJ8_bitCount_0 : cJ8_bitCount.data.toList.drop 0 = dktJ8_bitCount_0 := by decide +kernel
theorem dksJ8_bitCount_1 : cJ8_bitCount.data.toList.drop 24 = dktJ8_bitCount_1 := dk_seg dksJ8_bitCount_0 24 rfl rfl
theorem dksJ8_bitCount_2 : cJ8_bitCount.data.toList.drop 48 = dktJ8_bitCount_2 := dk_seg dksJ8_bitCount_1 24 rfl rfl
theorem dJ8_bitCount_0 : decode cJ8_bitCount 0 = .ok (.iload_n 0, 1) := dk_26 (dk_at dksJ8_bitCount_0 0 rfl rfl)
theorem dJ8_bitCount_1 : decode cJ8_bitCount 1 = .ok (.iload_n 0, 1) := dk_26 (dk_at dksJ8_bitCount_0 1 rfl rfl)
theorem dJ8_bitCount_2 : decode cJ8_bitCount 2 = .ok (.iconst 1, 1) := dk_4 (dk_at dksJ8_bitCount_0 2 rfl rfl)
theorem dJ8_bitCount_3 : decode cJ8_bitCount 3 = .ok (.iushr, 1) := dk_124 (dk_at dksJ8_bitCount_0 3 rfl rfl)
theorem dJ8_bitCount_4 : decode cJ8_bitCount 4 = .ok (.ldc_w 265, 3) := dk_19 1 9 (dk_at dksJ8_bitCount_0 4 rfl rfl)
theorem dJ8_bitCount_7 : decode cJ8_bitCount 7 = .ok (.iand, 1) := dk_126 (dk_at dksJ8_bitCount_0 7 rfl rfl)
theorem dJ8_bitCount_8 : decode cJ8_bitCount 8 = .ok (.isub, 1) := dk_100 (dk_at dksJ8_bitCount_0 8 rfl rfl)
theorem dJ8_bitCount_9 : decode cJ8_bitCount 9 = .ok (.istore_n 0, 1) := dk_59 (dk_at dksJ8_bitCount_0 9 rfl rfl)
theorem dJ8_bitCount_10 : decode cJ8_bitCount 10 = .ok (.iload_n 0, 1) := dk_26 (dk_at dksJ8_bitCount_0 10 rfl rfl)
theorem dJ8_bitCount_11 : decode cJ8_bitCount 11 = .ok (.ldc_w 266, 3) := dk_19 1 10 (dk_at dksJ8_bitCount_0 11 rfl rfl)
theorem dJ8_bitCount_14 : decode cJ8_bitCount 14 = .ok (.iand, 1) := dk_126 (dk_at dksJ8_bitCount_0 14 rfl rfl)
theorem dJ8_bitCount_15 : decode cJ8_bitCount 15 = .ok (.iload_n 0, 1) := dk_26 (dk_at dksJ8_bitCount_0 15 rfl rfl)
theorem dJ8_bitCount_16 : decode cJ8_bitCount 16 = .ok (.iconst 2, 1) := dk_5 (dk_at dksJ8_bitCount_0 16 rfl rfl)
theorem dJ8_bitCount_17 : decode cJ8_bitCount 17 = .ok (.iushr, 1) := dk_124 (dk_at dksJ8_bitCount_0 17 rfl rfl)
theorem dJ8_bitCount_18 : decode cJ8_bitCount 18 = .ok (.ldc_w 266, 3) := dk_19 1 10 (dk_at dksJ8_bitCount_0 18 rfl rfl)
theorem dJ8_bitCount_21 : decode cJ8_bitCount 21 = .ok (.iand, 1) := dk_126 (dk_at dksJ8_bitCount_0 21 rfl rfl)
theorem dJ8_bitCount_22 : decode cJ8_bitCount 22 = .ok (.iadd, 1) := dk_96 (dk_at dksJ8_bitCount_0 22 rfl rfl)
theorem dJ8_bitCount_23 : decode cJ8_bitCount 23 = .ok (.istore_n 0, 1) := dk_59 (dk_at dksJ8_bitCount_0 23 rfl rfl)
theorem dJ8_bitCount_24 : decode cJ8_bitCount 24 = .ok (.iload_n 0, 1) := dk_26 (dk_at dksJ8_bitCount_1 0 rfl rfl)
theorem dJ8_bitCount_25 : decode cJ8_bitCount 25 = .ok (.iload_n 0, 1) := dk_26 (dk_at dksJ8_bitCount_1 1 rfl rfl)
theorem dJ8_bitCount_26 : decode cJ8_bitCount 26 = .ok (.iconst 4, 1) := dk_7 (dk_at dksJ8_bitCount_1 2 rfl rfl)
theorem dJ8_bitCount_27 : decode cJ8_bitCount 27 = .ok (.iushr, 1) := dk_124 (dk_at dksJ8_bitCount_1 3 rfl rfl)
theorem dJ8_bitCount_28 : decode cJ8_bitCount 28 = .ok (.iadd, 1) := dk_96 (dk_at dksJ8_bitCount_1 4 rfl rfl)
theorem dJ8_bitCount_29 : decode cJ8_bitCount 29 = .ok (.ldc_w 267, 3) := dk_19 1 11 (dk_at dksJ8_bitCount_1 5 rfl rfl)
theorem dJ8_bitCount_32 : decode cJ8_bitCount 32 = .ok (.iand, 1) := dk_126 (dk_at dksJ8_bitCount_1 8 rfl rfl)
theorem dJ8_bitCount_33 : decode cJ8_bitCount 33 = .ok (.istore_n 0, 1) := dk_59 (dk_at dksJ8_bitCount_1 9 rfl rfl)
theorem dJ8_bitCount_34 : decode cJ8_bitCount 34 = .ok (.iload_n 0, 1) := dk_26 (dk_at dksJ8_bitCount_1 10 rfl rfl)
theorem dJ8_bitCount_35 : decode cJ8_bitCount 35 = .ok (.iload_n 0, 1) := dk_26 (dk_at dksJ8_bitCount_1 11 rfl rfl)
theorem dJ8_bitCount_36 : decode cJ8_bitCount 36 = .ok (.bipush 8, 2) := dk_16 8 (dk_at dksJ8_bitCount_1 12 rfl rfl)
theorem dJ8_bitCount_38 : decode cJ8_bitCount 38 = .ok (.iushr, 1) := dk_124 (dk_at dksJ8_bitCount_1 14 rfl rfl)
theorem dJ8_bitCount_39 : decode cJ8_bitCount 39 = .ok (.iadd, 1) := dk_96 (dk_at dksJ8_bitCount_1 15 rfl rfl)
theorem dJ8_bitCount_40 : decode cJ8_bitCount 40 = .ok (.istore_n 0, 1) := dk_59 (dk_at dksJ8_bitCount_1 16 rfl rfl)
theorem dJ8_bitCount_41 : decode cJ8_bitCount 41 = .ok (.iload_n 0, 1) := dk_26 (dk_at dksJ8_bitCount_1 17 rfl rfl)
theorem dJ8_bitCount_42 : decode cJ8_bitCount 42 = .ok (.iload_n 0, 1) := dk_26 (dk_at dksJ8_bitCount_1 18 rfl rfl)
theorem dJ8_bitCount_43 : decode cJ8_bitCount 43 = .ok (.bipush 16, 2) := dk_16 16 (dk_at dksJ8_bitCount_1 19 rfl rfl)
theorem dJ8_bitCount_45 : decode cJ8_bitCount 45 = .ok (.iushr, 1) := dk_124 (dk_at dksJ8_bitCount_1 21 rfl rfl)
theorem dJ8_bitCount_46 : decode cJ8_bitCount 46 = .ok (.iadd, 1) := dk_96 (dk_at dksJ8_bitCount_1 22 rfl rfl)
theorem dJ8_bitCount_47 : decode cJ8_bitCount 47 = .ok (.istore_n 0, 1) := dk_59 (dk_at dksJ8_bitCount_1 23 rfl rfl)
theorem dJ8_bitCount_48 : decode cJ8_bitCount 48 = .ok (.iload_n 0, 1) := dk_26 (dk_at dksJ8_bitCount_2 0 rfl rfl)
theorem dJ8_bitCount_49 : decode cJ8_bitCount 49 = .ok (.bipush 63, 2) := dk_16 63 (dk_at dksJ8_bitCount_2 1 rfl rfl)
theorem dJ8_bitCount_51 : decode cJ8_bitCount 51 = .ok (.iand, 1) := dk_126 (dk_at dksJ8_bitCount_2 3 rfl rfl)
theorem dJ8_bitCount_52 : decode cJ8_bitCount 52 = .ok (.ireturn, 1) := dk_172 (dk_at dksJ8_bitCount_2 4 rfl rfl)
abbrev cJ8_compare : ByteArray := prog_26_method_40_code
def yJ8_compare : MethodName := ⟨RJ8, "compare", "(II)I"⟩
def dkwJ8_compare_0 : List UInt8 := [26, 27, 162, 0, 7, 2, 167, 0, 13, 26, 27, 160, 0, 7, 3, 167, 0, 4, 4, 172]
abbrev dktJ8_compare_0 : List UInt8 := dkwJ8_compare_0 ++ []
theorem dksJ8_compare_0 : cJ8_compare.data.toList.drop 0 = dktJ8_compare_0 := by decide +kernel
theorem dJ8_compare_0 : decode cJ8_compare 0 = .ok (.iload_n 0, 1) := dk_26 (dk_at dksJ8_compare_0 0 rfl rfl)
theorem dJ8_compare_1 : decode cJ8_compare 1 = .ok (.iload_n 1, 1) := dk_27 (dk_at dksJ8_compare_0 1 rfl rfl)
theorem dJ8_compare_2 : decode cJ8_compare 2 = .ok (.if_icmp .ge 7, 3) := dk_162 0 7 (dk_at dksJ8_compare_0 2 rfl rfl)
theorem dJ8_compare_5 : decode cJ8_compare 5 = .ok (.iconst (-1), 1) := dk_2 (dk_at dksJ8_compare_0 5 rfl rfl)
theorem dJ8_compare_6 : decode cJ8_compare 6 = .ok (.goto 13, 3) := dk_167 0 13 (dk_at dksJ8_compare_0 6 rfl rfl)
theorem dJ8_compare_9 : decode cJ8_compare 9 = .ok (.iload_n 0, 1) := dk_26 (dk_at dksJ8_compare_0 9 rfl rfl)
theorem dJ8_compare_10 : decode cJ8_compare 10 = .ok (.iload_n 1, 1) := dk_27 (dk_at dksJ8_compare_0 10 rfl rfl)
theorem dJ8_compare_11 : decode cJ8_compare 11 = .ok (.if_icmp .ne 7, 3) := dk_160 0 7 (dk_at dksJ8_compare_0 11 rfl rfl)
theorem dJ8_compare_14 : decode cJ8_compare 14 = .ok (.iconst 0, 1) := dk_3 (dk_at dksJ8_compare_0 14 rfl rfl)
theorem dJ8_compare_15 : decode cJ8_compare 15 = .ok (.goto 4, 3) := dk_167 0 4 (dk_at dksJ8_compare_0 15 rfl rfl)
theorem dJ8_compare_18 : decode cJ8_compare 18 = .ok (.iconst 1, 1) := dk_4 (dk_at dksJ8_compare_0 18 rfl rfl)
theorem dJ8_compare_19 : decode cJ8_compare 19 = .ok (.ireturn, 1) := dk_172 (dk_at dksJ8_compare_0 19 rfl rfl)
theorem q102 : (Jvm.Cond.initialized "java/lang/Integer") ∈ lw_all := lw_g (lw_at lw_m1 29 rfl) rfl
theorem q920 : (Jvm.Cond.static ({ cls := "java/lang/Integer", name := "bitCount", desc := "(I)I" } : Jvm.MethodName)) ∈ lw_all := lw_g (lw_at lw_m4 127 rfl) rfl
theorem q921 : (Jvm.Cond.code ({ cls := "java/lang/Integer", name := "bitCount", desc := "(I)I" } : Jvm.MethodName) prog_26_method_49_code (1 : Nat) (Option.some Jvm.ClassFile.FieldType.int)) ∈ lw_all := lw_g (lw_at lw_m4 128 rfl) rfl
theorem q922 : (Jvm.Cond.constant "java/lang/Integer" (265 : Nat) (1431655765 : Int32)) ∈ lw_all := lw_g (lw_at lw_m4 129 rfl) rfl
theorem q923 : (Jvm.Cond.constant "java/lang/Integer" (266 : Nat) (858993459 : Int32)) ∈ lw_all := lw_g (lw_at lw_m4 130 rfl) rfl
theorem q924 : (Jvm.Cond.constant "java/lang/Integer" (267 : Nat) (252645135 : Int32)) ∈ lw_all := lw_g (lw_at lw_m4 131 rfl) rfl
theorem q966 : (Jvm.Cond.static ({ cls := "java/lang/Integer", name := "compare", desc := "(II)I" } : Jvm.MethodName)) ∈ lw_all := lw_g (lw_at lw_m4 173 rfl) rfl
theorem q967 : (Jvm.Cond.code ({ cls := "java/lang/Integer", name := "compare", desc := "(II)I" } : Jvm.MethodName) prog_26_method_40_code (2 : Nat) (Option.some Jvm.ClassFile.FieldType.int)) ∈ lw_all := lw_g (lw_at lw_m4 174 rfl) rfl

/-! java/util/Arrays -/
set_option maxRecDepth 100000
def RJ9 : String := "java/util/Arrays"
abbrev cJ9_copyOf : ByteArray := prog_34_method_123_code
def yJ9_copyOf : MethodName := ⟨RJ9, "copyOf", "([II)[I"⟩
def dkwJ9_copyOf_1 : List UInt8 := [27, 184, 1, 48, 184, 0, 150, 44, 176]
abbrev dktJ9_copyOf_1 : List UInt8 := dkwJ9_copyOf_1 ++ []
def dkwJ9_copyOf_0 : List UInt8 := [27, 42, 190, 160, 0, 11, 42, 182, 1, 60, 192, 1, 61, 176, 27, 188, 10, 77, 42, 3, 44, 3, 42, 190]
abbrev dktJ9_copyOf_0 : List UInt8 := dkwJ9_copyOf_0 ++ dktJ9_copyOf_1
theorem dksJ9_copyOf_0 : cJ9_copyOf.data.toList.drop 0 = dktJ9_copyOf_0 := by decide +kernel
theorem dksJ9_copyOf_1 : cJ9_copyOf.data.toList.drop 24 = dktJ9_copyOf_1 := dk_seg dksJ9_copyOf_0 24 rfl rfl
theorem dJ9_copyOf_0 : decode cJ9_copyOf 0 = .ok (.iload_n 1, 1) := dk_27 (dk_at dksJ9_copyOf_0 0 rfl rfl)
theorem dJ9_copyOf_1 : decode cJ9_copyOf 1 = .ok (.aload_n 0, 1) := dk_42 (dk_at dksJ9_copyOf_0 1 rfl rfl)
theorem dJ9_copyOf_2 : decode cJ9_copyOf 2 = .ok (.arraylength, 1) := dk_190 (dk_at dksJ9_copyOf_0 2 rfl rfl)
theorem dJ9_copyOf_3 : decode cJ9_copyOf 3 = .ok (.if_icmp .ne 11, 3) := dk_160 0 11 (dk_at dksJ9_copyOf_0 3 rfl rfl)
theorem dJ9_copyOf_6 : decode cJ9_copyOf 6 = .ok (.aload_n 0, 1) := dk_42 (dk_at dksJ9_copyOf_0 6 rfl rfl)
theorem dJ9_copyOf_7 : decode cJ9_copyOf 7 = .ok (.invokevirtual 316, 3) := dk_182 1 60 (dk_at dksJ9_copyOf_0 7 rfl rfl)
theorem dJ9_copyOf_10 : decode cJ9_copyOf 10 = .ok (.checkcast 317, 3) := dk_192 1 61 (dk_at dksJ9_copyOf_0 10 rfl rfl)
theorem dJ9_copyOf_13 : decode cJ9_copyOf 13 = .ok (.areturn, 1) := dk_176 (dk_at dksJ9_copyOf_0 13 rfl rfl)
theorem dJ9_copyOf_14 : decode cJ9_copyOf 14 = .ok (.iload_n 1, 1) := dk_27 (dk_at dksJ9_copyOf_0 14 rfl rfl)
theorem dJ9_copyOf_15 : decode cJ9_copyOf 15 = .ok (.newarray .int, 2) := dk_188_10 (dk_at dksJ9_copyOf_0 15 rfl rfl)
theorem dJ9_copyOf_17 : decode cJ9_copyOf 17 = .ok (.astore_n 2, 1) := dk_77 (dk_at dksJ9_copyOf_0 17 rfl rfl)
theorem dJ9_copyOf_18 : decode cJ9_copyOf 18 = .ok (.aload_n 0, 1) := dk_42 (dk_at dksJ9_copyOf_0 18 rfl rfl)
theorem dJ9_copyOf_19 : decode cJ9_copyOf 19 = .ok (.iconst 0, 1) := dk_3 (dk_at dksJ9_copyOf_0 19 rfl rfl)
theorem dJ9_copyOf_20 : decode cJ9_copyOf 20 = .ok (.aload_n 2, 1) := dk_44 (dk_at dksJ9_copyOf_0 20 rfl rfl)
theorem dJ9_copyOf_21 : decode cJ9_copyOf 21 = .ok (.iconst 0, 1) := dk_3 (dk_at dksJ9_copyOf_0 21 rfl rfl)
theorem dJ9_copyOf_22 : decode cJ9_copyOf 22 = .ok (.aload_n 0, 1) := dk_42 (dk_at dksJ9_copyOf_0 22 rfl rfl)
theorem dJ9_copyOf_23 : decode cJ9_copyOf 23 = .ok (.arraylength, 1) := dk_190 (dk_at dksJ9_copyOf_0 23 rfl rfl)
theorem dJ9_copyOf_24 : decode cJ9_copyOf 24 = .ok (.iload_n 1, 1) := dk_27 (dk_at dksJ9_copyOf_1 0 rfl rfl)
theorem dJ9_copyOf_25 : decode cJ9_copyOf 25 = .ok (.invokestatic 304, 3) := dk_184 1 48 (dk_at dksJ9_copyOf_1 1 rfl rfl)
theorem dJ9_copyOf_28 : decode cJ9_copyOf 28 = .ok (.invokestatic 150, 3) := dk_184 0 150 (dk_at dksJ9_copyOf_1 4 rfl rfl)
theorem dJ9_copyOf_31 : decode cJ9_copyOf 31 = .ok (.aload_n 2, 1) := dk_44 (dk_at dksJ9_copyOf_1 7 rfl rfl)
theorem dJ9_copyOf_32 : decode cJ9_copyOf 32 = .ok (.areturn, 1) := dk_176 (dk_at dksJ9_copyOf_1 8 rfl rfl)
theorem q103 : (Jvm.Cond.initialized "java/util/Arrays") ∈ lw_all := lw_g (lw_at lw_m1 30 rfl) rfl
theorem q987 : (Jvm.Cond.static ({ cls := "java/util/Arrays", name := "copyOf", desc := "([II)[I" } : Jvm.MethodName)) ∈ lw_all := lw_g (lw_at lw_m4 194 rfl) rfl
theorem q988 : (Jvm.Cond.code ({ cls := "java/util/Arrays", name := "copyOf", desc := "([II)[I" } : Jvm.MethodName) prog_34_method_123_code (3 : Nat) (Option.some (Jvm.ClassFile.FieldType.array Jvm.ClassFile.FieldType.int))) ∈ lw_all := lw_g (lw_at lw_m4 195 rfl) rfl
theorem q989 : (Jvm.Cond.methodLink "java/util/Arrays" (316 : Nat) ({ cls := "[I", name := "clone", desc := "()Ljava/lang/Object;" } : Jvm.MethodName)) ∈ lw_all := lw_g (lw_at lw_m4 196 rfl) rfl
theorem q995 : (Jvm.Cond.classLink "java/util/Arrays" (317 : Nat) "[I") ∈ lw_all := lw_g (lw_at lw_m4 202 rfl) rfl
theorem q996 : (Jvm.Cond.methodLink "java/util/Arrays" (304 : Nat) ({ cls := "java/lang/Math", name := "min", desc := "(II)I" } : Jvm.MethodName)) ∈ lw_all := lw_g (lw_at lw_m4 203 rfl) rfl
theorem q997 : (Jvm.Cond.methodLink "java/util/Arrays" (150 : Nat) ({ cls := "java/lang/System", name := "arraycopy", desc := "(Ljava/lang/Object;ILjava/lang/Object;II)V" } : Jvm.MethodName)) ∈ lw_all := lw_g (lw_at lw_m4 204 rfl) rfl

/-! SpoonScales$Court -/
set_option maxRecDepth 100000
def RX1 : String := "SpoonScales$Court"
def TX1 : u_T := fun k => match k with
  | 0 => ("SpoonScales$Court", "eaters", "I", false)
  | 1 => ("SpoonScales$Court", "texts", "I", false)
  | 2 => ("SpoonScales$Court", "text", "I", false)
  | 3 => ("SpoonScales$Court", "steps", "I", false)
  | 4 => ("SpoonScales$Court", "tests", "I", false)
  | 5 => ("SpoonScales$Court", "tells", "I", false)
  | 6 => ("SpoonScales$Court", "hunger", "[I", true)
  | 7 => ("SpoonScales$Court", "stomachs", "[I", true)
  | 8 => ("SpoonScales$Court", "price", "[I", true)
  | 9 => ("SpoonScales$Court", "now", "[I", true)
  | 10 => ("SpoonScales$Court", "stepEaters", "[I", true)
  | 11 => ("SpoonScales$Court", "step", "[[I", true)
  | 12 => ("SpoonScales$Court", "spoon", "[[I", true)
  | 13 => ("SpoonScales$Court", "dent", "[[I", true)
  | 14 => ("SpoonScales$Court", "test", "[[I", true)
  | _ => ("SpoonScales$Court", "tell", "[[I", true)
def tyX1 : Nat → FieldType := fun k => match k with
  | 0 => .int
  | 1 => .int
  | 2 => .int
  | 3 => .int
  | 4 => .int
  | 5 => .int
  | 6 => .array .int
  | 7 => .array .int
  | 8 => .array .int
  | 9 => .array .int
  | 10 => .array .int
  | 11 => .array (.array .int)
  | 12 => .array (.array .int)
  | 13 => .array (.array .int)
  | 14 => .array (.array .int)
  | _ => .array (.array .int)
abbrev wsX10 : List Cond := u_ws RX1 TX1 16
set_option maxRecDepth 100000 in
theorem nmX1 : ∀ a, a < 16 → ∀ b, b < 16 → a ≠ b → (TX1 a).2.1 ≠ (TX1 b).2.1 := by decide +kernel
set_option maxRecDepth 100000 in
theorem tyX1_ok : ∀ k, k < 16 → parseFieldDescriptor (TX1 k).2.2.1 = some (tyX1 k) := by decide +kernel
abbrev cX1_init : ByteArray := prog_6_method_1_code
def yX1_init : MethodName := ⟨RX1, "<init>", "()V"⟩
def dkwX1_init_4 : List UInt8 := [181, 0, 42, 42, 16, 20, 5, 197, 0, 31, 2, 181, 0, 45, 42, 180, 0, 25, 16, 22, 6, 79, 177]
abbrev dktX1_init_4 : List UInt8 := dkwX1_init_4 ++ []
def dkwX1_init_3 : List UInt8 := [181, 0, 36, 42, 16, 30, 6, 197, 0, 31, 2, 181, 0, 39, 42, 16, 12, 5, 197, 0, 31, 2]
abbrev dktX1_init_3 : List UInt8 := dkwX1_init_3 ++ dktX1_init_4
def dkwX1_init_2 : List UInt8 := [181, 0, 28, 42, 16, 30, 16, 25, 197, 0, 31, 2, 181, 0, 33, 42, 16, 60, 7, 197, 0, 31, 2]
abbrev dktX1_init_2 : List UInt8 := dkwX1_init_2 ++ dktX1_init_3
def dkwX1_init_1 : List UInt8 := [181, 0, 19, 42, 16, 9, 188, 10, 181, 0, 22, 42, 16, 25, 188, 10, 181, 0, 25, 42, 16, 30, 188, 10]
abbrev dktX1_init_1 : List UInt8 := dkwX1_init_1 ++ dktX1_init_2
def dkwX1_init_0 : List UInt8 := [42, 183, 0, 3, 42, 2, 181, 0, 9, 42, 16, 9, 188, 10, 181, 0, 15, 42, 16, 9, 188, 10]
abbrev dktX1_init_0 : List UInt8 := dkwX1_init_0 ++ dktX1_init_1
theorem dksX1_init_0 : cX1_init.data.toList.drop 0 = dktX1_init_0 := by decide +kernel
theorem dksX1_init_1 : cX1_init.data.toList.drop 22 = dktX1_init_1 := dk_seg dksX1_init_0 22 rfl rfl
theorem dksX1_init_2 : cX1_init.data.toList.drop 46 = dktX1_init_2 := dk_seg dksX1_init_1 24 rfl rfl
theorem dksX1_init_3 : cX1_init.data.toList.drop 69 = dktX1_init_3 := dk_seg dksX1_init_2 23 rfl rfl
theorem dksX1_init_4 : cX1_init.data.toList.drop 91 = dktX1_init_4 := dk_seg dksX1_init_3 22 rfl rfl
theorem dX1_init_0 : decode cX1_init 0 = .ok (.aload_n 0, 1) := dk_42 (dk_at dksX1_init_0 0 rfl rfl)
theorem dX1_init_1 : decode cX1_init 1 = .ok (.invokespecial 3, 3) := dk_183 0 3 (dk_at dksX1_init_0 1 rfl rfl)
theorem dX1_init_4 : decode cX1_init 4 = .ok (.aload_n 0, 1) := dk_42 (dk_at dksX1_init_0 4 rfl rfl)
theorem dX1_init_5 : decode cX1_init 5 = .ok (.iconst (-1), 1) := dk_2 (dk_at dksX1_init_0 5 rfl rfl)
theorem dX1_init_6 : decode cX1_init 6 = .ok (.putfield 9, 3) := dk_181 0 9 (dk_at dksX1_init_0 6 rfl rfl)
theorem dX1_init_9 : decode cX1_init 9 = .ok (.aload_n 0, 1) := dk_42 (dk_at dksX1_init_0 9 rfl rfl)
theorem dX1_init_10 : decode cX1_init 10 = .ok (.bipush 9, 2) := dk_16 9 (dk_at dksX1_init_0 10 rfl rfl)
theorem dX1_init_12 : decode cX1_init 12 = .ok (.newarray .int, 2) := dk_188_10 (dk_at dksX1_init_0 12 rfl rfl)
theorem dX1_init_14 : decode cX1_init 14 = .ok (.putfield 15, 3) := dk_181 0 15 (dk_at dksX1_init_0 14 rfl rfl)
theorem dX1_init_17 : decode cX1_init 17 = .ok (.aload_n 0, 1) := dk_42 (dk_at dksX1_init_0 17 rfl rfl)
theorem dX1_init_18 : decode cX1_init 18 = .ok (.bipush 9, 2) := dk_16 9 (dk_at dksX1_init_0 18 rfl rfl)
theorem dX1_init_20 : decode cX1_init 20 = .ok (.newarray .int, 2) := dk_188_10 (dk_at dksX1_init_0 20 rfl rfl)
theorem dX1_init_22 : decode cX1_init 22 = .ok (.putfield 19, 3) := dk_181 0 19 (dk_at dksX1_init_1 0 rfl rfl)
theorem dX1_init_25 : decode cX1_init 25 = .ok (.aload_n 0, 1) := dk_42 (dk_at dksX1_init_1 3 rfl rfl)
theorem dX1_init_26 : decode cX1_init 26 = .ok (.bipush 9, 2) := dk_16 9 (dk_at dksX1_init_1 4 rfl rfl)
theorem dX1_init_28 : decode cX1_init 28 = .ok (.newarray .int, 2) := dk_188_10 (dk_at dksX1_init_1 6 rfl rfl)
theorem dX1_init_30 : decode cX1_init 30 = .ok (.putfield 22, 3) := dk_181 0 22 (dk_at dksX1_init_1 8 rfl rfl)
theorem dX1_init_33 : decode cX1_init 33 = .ok (.aload_n 0, 1) := dk_42 (dk_at dksX1_init_1 11 rfl rfl)
theorem dX1_init_34 : decode cX1_init 34 = .ok (.bipush 25, 2) := dk_16 25 (dk_at dksX1_init_1 12 rfl rfl)
theorem dX1_init_36 : decode cX1_init 36 = .ok (.newarray .int, 2) := dk_188_10 (dk_at dksX1_init_1 14 rfl rfl)
theorem dX1_init_38 : decode cX1_init 38 = .ok (.putfield 25, 3) := dk_181 0 25 (dk_at dksX1_init_1 16 rfl rfl)
theorem dX1_init_41 : decode cX1_init 41 = .ok (.aload_n 0, 1) := dk_42 (dk_at dksX1_init_1 19 rfl rfl)
theorem dX1_init_42 : decode cX1_init 42 = .ok (.bipush 30, 2) := dk_16 30 (dk_at dksX1_init_1 20 rfl rfl)
theorem dX1_init_44 : decode cX1_init 44 = .ok (.newarray .int, 2) := dk_188_10 (dk_at dksX1_init_1 22 rfl rfl)
theorem dX1_init_46 : decode cX1_init 46 = .ok (.putfield 28, 3) := dk_181 0 28 (dk_at dksX1_init_2 0 rfl rfl)
theorem dX1_init_49 : decode cX1_init 49 = .ok (.aload_n 0, 1) := dk_42 (dk_at dksX1_init_2 3 rfl rfl)
theorem dX1_init_50 : decode cX1_init 50 = .ok (.bipush 30, 2) := dk_16 30 (dk_at dksX1_init_2 4 rfl rfl)
theorem dX1_init_52 : decode cX1_init 52 = .ok (.bipush 25, 2) := dk_16 25 (dk_at dksX1_init_2 6 rfl rfl)
theorem dX1_init_54 : decode cX1_init 54 = .ok (.multianewarray 31 2, 4) := by decide +kernel
theorem dX1_init_58 : decode cX1_init 58 = .ok (.putfield 33, 3) := dk_181 0 33 (dk_at dksX1_init_2 12 rfl rfl)
theorem dX1_init_61 : decode cX1_init 61 = .ok (.aload_n 0, 1) := dk_42 (dk_at dksX1_init_2 15 rfl rfl)
theorem dX1_init_62 : decode cX1_init 62 = .ok (.bipush 60, 2) := dk_16 60 (dk_at dksX1_init_2 16 rfl rfl)
theorem dX1_init_64 : decode cX1_init 64 = .ok (.iconst 4, 1) := dk_7 (dk_at dksX1_init_2 18 rfl rfl)
theorem dX1_init_65 : decode cX1_init 65 = .ok (.multianewarray 31 2, 4) := by decide +kernel
theorem dX1_init_69 : decode cX1_init 69 = .ok (.putfield 36, 3) := dk_181 0 36 (dk_at dksX1_init_3 0 rfl rfl)
theorem dX1_init_72 : decode cX1_init 72 = .ok (.aload_n 0, 1) := dk_42 (dk_at dksX1_init_3 3 rfl rfl)
theorem dX1_init_73 : decode cX1_init 73 = .ok (.bipush 30, 2) := dk_16 30 (dk_at dksX1_init_3 4 rfl rfl)
theorem dX1_init_75 : decode cX1_init 75 = .ok (.iconst 3, 1) := dk_6 (dk_at dksX1_init_3 6 rfl rfl)
theorem dX1_init_76 : decode cX1_init 76 = .ok (.multianewarray 31 2, 4) := by decide +kernel
theorem dX1_init_80 : decode cX1_init 80 = .ok (.putfield 39, 3) := dk_181 0 39 (dk_at dksX1_init_3 11 rfl rfl)
theorem dX1_init_83 : decode cX1_init 83 = .ok (.aload_n 0, 1) := dk_42 (dk_at dksX1_init_3 14 rfl rfl)
theorem dX1_init_84 : decode cX1_init 84 = .ok (.bipush 12, 2) := dk_16 12 (dk_at dksX1_init_3 15 rfl rfl)
theorem dX1_init_86 : decode cX1_init 86 = .ok (.iconst 2, 1) := dk_5 (dk_at dksX1_init_3 17 rfl rfl)
theorem dX1_init_87 : decode cX1_init 87 = .ok (.multianewarray 31 2, 4) := by decide +kernel
theorem dX1_init_91 : decode cX1_init 91 = .ok (.putfield 42, 3) := dk_181 0 42 (dk_at dksX1_init_4 0 rfl rfl)
theorem dX1_init_94 : decode cX1_init 94 = .ok (.aload_n 0, 1) := dk_42 (dk_at dksX1_init_4 3 rfl rfl)
theorem dX1_init_95 : decode cX1_init 95 = .ok (.bipush 20, 2) := dk_16 20 (dk_at dksX1_init_4 4 rfl rfl)
theorem dX1_init_97 : decode cX1_init 97 = .ok (.iconst 2, 1) := dk_5 (dk_at dksX1_init_4 6 rfl rfl)
theorem dX1_init_98 : decode cX1_init 98 = .ok (.multianewarray 31 2, 4) := by decide +kernel
theorem dX1_init_102 : decode cX1_init 102 = .ok (.putfield 45, 3) := dk_181 0 45 (dk_at dksX1_init_4 11 rfl rfl)
theorem dX1_init_105 : decode cX1_init 105 = .ok (.aload_n 0, 1) := dk_42 (dk_at dksX1_init_4 14 rfl rfl)
theorem dX1_init_106 : decode cX1_init 106 = .ok (.getfield 25, 3) := dk_180 0 25 (dk_at dksX1_init_4 15 rfl rfl)
theorem dX1_init_109 : decode cX1_init 109 = .ok (.bipush 22, 2) := dk_16 22 (dk_at dksX1_init_4 18 rfl rfl)
theorem dX1_init_111 : decode cX1_init 111 = .ok (.iconst 3, 1) := dk_6 (dk_at dksX1_init_4 20 rfl rfl)
theorem dX1_init_112 : decode cX1_init 112 = .ok (.iastore, 1) := dk_79 (dk_at dksX1_init_4 21 rfl rfl)
theorem dX1_init_113 : decode cX1_init 113 = .ok (.return_, 1) := dk_177 (dk_at dksX1_init_4 22 rfl rfl)
abbrev cX1_keep : ByteArray := prog_6_method_5_code
def yX1_keep : MethodName := ⟨RX1, "keep", "()V"⟩
def dkwX1_keep_4 : List UInt8 := [42, 180, 0, 28, 42, 89, 180, 0, 64, 90, 4, 96, 181, 0, 64, 42, 180, 0, 58, 79, 177]
abbrev dktX1_keep_4 : List UInt8 := dkwX1_keep_4 ++ []
def dkwX1_keep_3 : List UInt8 := [180, 0, 64, 4, 100, 181, 0, 64, 42, 180, 0, 25, 42, 180, 0, 33, 42, 180, 0, 64, 50, 184, 0, 54]
abbrev dktX1_keep_3 : List UInt8 := dkwX1_keep_3 ++ dktX1_keep_4
def dkwX1_keep_2 : List UInt8 := [180, 0, 28, 28, 46, 79, 132, 2, 1, 167, 255, 219, 42, 180, 0, 33, 16, 29, 43, 83, 42, 89]
abbrev dktX1_keep_2 : List UInt8 := dkwX1_keep_2 ++ dktX1_keep_3
def dkwX1_keep_1 : List UInt8 := [42, 180, 0, 33, 28, 4, 100, 42, 180, 0, 33, 28, 50, 83, 42, 180, 0, 28, 28, 4, 100, 42]
abbrev dktX1_keep_1 : List UInt8 := dkwX1_keep_1 ++ dktX1_keep_2
def dkwX1_keep_0 : List UInt8 := [42, 180, 0, 64, 16, 30, 160, 0, 70, 42, 180, 0, 33, 3, 50, 76, 4, 61, 28, 16, 30, 162, 0, 37]
abbrev dktX1_keep_0 : List UInt8 := dkwX1_keep_0 ++ dktX1_keep_1
theorem dksX1_keep_0 : cX1_keep.data.toList.drop 0 = dktX1_keep_0 := by decide +kernel
theorem dksX1_keep_1 : cX1_keep.data.toList.drop 24 = dktX1_keep_1 := dk_seg dksX1_keep_0 24 rfl rfl
theorem dksX1_keep_2 : cX1_keep.data.toList.drop 46 = dktX1_keep_2 := dk_seg dksX1_keep_1 22 rfl rfl
theorem dksX1_keep_3 : cX1_keep.data.toList.drop 68 = dktX1_keep_3 := dk_seg dksX1_keep_2 22 rfl rfl
theorem dksX1_keep_4 : cX1_keep.data.toList.drop 92 = dktX1_keep_4 := dk_seg dksX1_keep_3 24 rfl rfl
theorem dX1_keep_0 : decode cX1_keep 0 = .ok (.aload_n 0, 1) := dk_42 (dk_at dksX1_keep_0 0 rfl rfl)
theorem dX1_keep_1 : decode cX1_keep 1 = .ok (.getfield 64, 3) := dk_180 0 64 (dk_at dksX1_keep_0 1 rfl rfl)
theorem dX1_keep_4 : decode cX1_keep 4 = .ok (.bipush 30, 2) := dk_16 30 (dk_at dksX1_keep_0 4 rfl rfl)
theorem dX1_keep_6 : decode cX1_keep 6 = .ok (.if_icmp .ne 70, 3) := dk_160 0 70 (dk_at dksX1_keep_0 6 rfl rfl)
theorem dX1_keep_9 : decode cX1_keep 9 = .ok (.aload_n 0, 1) := dk_42 (dk_at dksX1_keep_0 9 rfl rfl)
theorem dX1_keep_10 : decode cX1_keep 10 = .ok (.getfield 33, 3) := dk_180 0 33 (dk_at dksX1_keep_0 10 rfl rfl)
theorem dX1_keep_13 : decode cX1_keep 13 = .ok (.iconst 0, 1) := dk_3 (dk_at dksX1_keep_0 13 rfl rfl)
theorem dX1_keep_14 : decode cX1_keep 14 = .ok (.aaload, 1) := dk_50 (dk_at dksX1_keep_0 14 rfl rfl)
theorem dX1_keep_15 : decode cX1_keep 15 = .ok (.astore_n 1, 1) := dk_76 (dk_at dksX1_keep_0 15 rfl rfl)
theorem dX1_keep_16 : decode cX1_keep 16 = .ok (.iconst 1, 1) := dk_4 (dk_at dksX1_keep_0 16 rfl rfl)
theorem dX1_keep_17 : decode cX1_keep 17 = .ok (.istore_n 2, 1) := dk_61 (dk_at dksX1_keep_0 17 rfl rfl)
theorem dX1_keep_18 : decode cX1_keep 18 = .ok (.iload_n 2, 1) := dk_28 (dk_at dksX1_keep_0 18 rfl rfl)
theorem dX1_keep_19 : decode cX1_keep 19 = .ok (.bipush 30, 2) := dk_16 30 (dk_at dksX1_keep_0 19 rfl rfl)
theorem dX1_keep_21 : decode cX1_keep 21 = .ok (.if_icmp .ge 37, 3) := dk_162 0 37 (dk_at dksX1_keep_0 21 rfl rfl)
theorem dX1_keep_24 : decode cX1_keep 24 = .ok (.aload_n 0, 1) := dk_42 (dk_at dksX1_keep_1 0 rfl rfl)
theorem dX1_keep_25 : decode cX1_keep 25 = .ok (.getfield 33, 3) := dk_180 0 33 (dk_at dksX1_keep_1 1 rfl rfl)
theorem dX1_keep_28 : decode cX1_keep 28 = .ok (.iload_n 2, 1) := dk_28 (dk_at dksX1_keep_1 4 rfl rfl)
theorem dX1_keep_29 : decode cX1_keep 29 = .ok (.iconst 1, 1) := dk_4 (dk_at dksX1_keep_1 5 rfl rfl)
theorem dX1_keep_30 : decode cX1_keep 30 = .ok (.isub, 1) := dk_100 (dk_at dksX1_keep_1 6 rfl rfl)
theorem dX1_keep_31 : decode cX1_keep 31 = .ok (.aload_n 0, 1) := dk_42 (dk_at dksX1_keep_1 7 rfl rfl)
theorem dX1_keep_32 : decode cX1_keep 32 = .ok (.getfield 33, 3) := dk_180 0 33 (dk_at dksX1_keep_1 8 rfl rfl)
theorem dX1_keep_35 : decode cX1_keep 35 = .ok (.iload_n 2, 1) := dk_28 (dk_at dksX1_keep_1 11 rfl rfl)
theorem dX1_keep_36 : decode cX1_keep 36 = .ok (.aaload, 1) := dk_50 (dk_at dksX1_keep_1 12 rfl rfl)
theorem dX1_keep_37 : decode cX1_keep 37 = .ok (.aastore, 1) := dk_83 (dk_at dksX1_keep_1 13 rfl rfl)
theorem dX1_keep_38 : decode cX1_keep 38 = .ok (.aload_n 0, 1) := dk_42 (dk_at dksX1_keep_1 14 rfl rfl)
theorem dX1_keep_39 : decode cX1_keep 39 = .ok (.getfield 28, 3) := dk_180 0 28 (dk_at dksX1_keep_1 15 rfl rfl)
theorem dX1_keep_42 : decode cX1_keep 42 = .ok (.iload_n 2, 1) := dk_28 (dk_at dksX1_keep_1 18 rfl rfl)
theorem dX1_keep_43 : decode cX1_keep 43 = .ok (.iconst 1, 1) := dk_4 (dk_at dksX1_keep_1 19 rfl rfl)
theorem dX1_keep_44 : decode cX1_keep 44 = .ok (.isub, 1) := dk_100 (dk_at dksX1_keep_1 20 rfl rfl)
theorem dX1_keep_45 : decode cX1_keep 45 = .ok (.aload_n 0, 1) := dk_42 (dk_at dksX1_keep_1 21 rfl rfl)
theorem dX1_keep_46 : decode cX1_keep 46 = .ok (.getfield 28, 3) := dk_180 0 28 (dk_at dksX1_keep_2 0 rfl rfl)
theorem dX1_keep_49 : decode cX1_keep 49 = .ok (.iload_n 2, 1) := dk_28 (dk_at dksX1_keep_2 3 rfl rfl)
theorem dX1_keep_50 : decode cX1_keep 50 = .ok (.iaload, 1) := dk_46 (dk_at dksX1_keep_2 4 rfl rfl)
theorem dX1_keep_51 : decode cX1_keep 51 = .ok (.iastore, 1) := dk_79 (dk_at dksX1_keep_2 5 rfl rfl)
theorem dX1_keep_52 : decode cX1_keep 52 = .ok (.iinc 2 1, 3) := dk_132 2 1 (dk_at dksX1_keep_2 6 rfl rfl)
theorem dX1_keep_55 : decode cX1_keep 55 = .ok (.goto (-37), 3) := dk_167 255 219 (dk_at dksX1_keep_2 9 rfl rfl)
theorem dX1_keep_58 : decode cX1_keep 58 = .ok (.aload_n 0, 1) := dk_42 (dk_at dksX1_keep_2 12 rfl rfl)
theorem dX1_keep_59 : decode cX1_keep 59 = .ok (.getfield 33, 3) := dk_180 0 33 (dk_at dksX1_keep_2 13 rfl rfl)
theorem dX1_keep_62 : decode cX1_keep 62 = .ok (.bipush 29, 2) := dk_16 29 (dk_at dksX1_keep_2 16 rfl rfl)
theorem dX1_keep_64 : decode cX1_keep 64 = .ok (.aload_n 1, 1) := dk_43 (dk_at dksX1_keep_2 18 rfl rfl)
theorem dX1_keep_65 : decode cX1_keep 65 = .ok (.aastore, 1) := dk_83 (dk_at dksX1_keep_2 19 rfl rfl)
theorem dX1_keep_66 : decode cX1_keep 66 = .ok (.aload_n 0, 1) := dk_42 (dk_at dksX1_keep_2 20 rfl rfl)
theorem dX1_keep_67 : decode cX1_keep 67 = .ok (.dup, 1) := dk_89 (dk_at dksX1_keep_2 21 rfl rfl)
theorem dX1_keep_68 : decode cX1_keep 68 = .ok (.getfield 64, 3) := dk_180 0 64 (dk_at dksX1_keep_3 0 rfl rfl)
theorem dX1_keep_71 : decode cX1_keep 71 = .ok (.iconst 1, 1) := dk_4 (dk_at dksX1_keep_3 3 rfl rfl)
theorem dX1_keep_72 : decode cX1_keep 72 = .ok (.isub, 1) := dk_100 (dk_at dksX1_keep_3 4 rfl rfl)
theorem dX1_keep_73 : decode cX1_keep 73 = .ok (.putfield 64, 3) := dk_181 0 64 (dk_at dksX1_keep_3 5 rfl rfl)
theorem dX1_keep_76 : decode cX1_keep 76 = .ok (.aload_n 0, 1) := dk_42 (dk_at dksX1_keep_3 8 rfl rfl)
theorem dX1_keep_77 : decode cX1_keep 77 = .ok (.getfield 25, 3) := dk_180 0 25 (dk_at dksX1_keep_3 9 rfl rfl)
theorem dX1_keep_80 : decode cX1_keep 80 = .ok (.aload_n 0, 1) := dk_42 (dk_at dksX1_keep_3 12 rfl rfl)
theorem dX1_keep_81 : decode cX1_keep 81 = .ok (.getfield 33, 3) := dk_180 0 33 (dk_at dksX1_keep_3 13 rfl rfl)
theorem dX1_keep_84 : decode cX1_keep 84 = .ok (.aload_n 0, 1) := dk_42 (dk_at dksX1_keep_3 16 rfl rfl)
theorem dX1_keep_85 : decode cX1_keep 85 = .ok (.getfield 64, 3) := dk_180 0 64 (dk_at dksX1_keep_3 17 rfl rfl)
theorem dX1_keep_88 : decode cX1_keep 88 = .ok (.aaload, 1) := dk_50 (dk_at dksX1_keep_3 20 rfl rfl)
theorem dX1_keep_89 : decode cX1_keep 89 = .ok (.invokestatic 54, 3) := dk_184 0 54 (dk_at dksX1_keep_3 21 rfl rfl)
theorem dX1_keep_92 : decode cX1_keep 92 = .ok (.aload_n 0, 1) := dk_42 (dk_at dksX1_keep_4 0 rfl rfl)
theorem dX1_keep_93 : decode cX1_keep 93 = .ok (.getfield 28, 3) := dk_180 0 28 (dk_at dksX1_keep_4 1 rfl rfl)
theorem dX1_keep_96 : decode cX1_keep 96 = .ok (.aload_n 0, 1) := dk_42 (dk_at dksX1_keep_4 4 rfl rfl)
theorem dX1_keep_97 : decode cX1_keep 97 = .ok (.dup, 1) := dk_89 (dk_at dksX1_keep_4 5 rfl rfl)
theorem dX1_keep_98 : decode cX1_keep 98 = .ok (.getfield 64, 3) := dk_180 0 64 (dk_at dksX1_keep_4 6 rfl rfl)
theorem dX1_keep_101 : decode cX1_keep 101 = .ok (.dup_x1, 1) := dk_90 (dk_at dksX1_keep_4 9 rfl rfl)
theorem dX1_keep_102 : decode cX1_keep 102 = .ok (.iconst 1, 1) := dk_4 (dk_at dksX1_keep_4 10 rfl rfl)
theorem dX1_keep_103 : decode cX1_keep 103 = .ok (.iadd, 1) := dk_96 (dk_at dksX1_keep_4 11 rfl rfl)
theorem dX1_keep_104 : decode cX1_keep 104 = .ok (.putfield 64, 3) := dk_181 0 64 (dk_at dksX1_keep_4 12 rfl rfl)
theorem dX1_keep_107 : decode cX1_keep 107 = .ok (.aload_n 0, 1) := dk_42 (dk_at dksX1_keep_4 15 rfl rfl)
theorem dX1_keep_108 : decode cX1_keep 108 = .ok (.getfield 58, 3) := dk_180 0 58 (dk_at dksX1_keep_4 16 rfl rfl)
theorem dX1_keep_111 : decode cX1_keep 111 = .ok (.iastore, 1) := dk_79 (dk_at dksX1_keep_4 19 rfl rfl)
theorem dX1_keep_112 : decode cX1_keep 112 = .ok (.return_, 1) := dk_177 (dk_at dksX1_keep_4 20 rfl rfl)
abbrev cX1_over : ByteArray := prog_6_method_2_code
def yX1_over : MethodName := ⟨RX1, "over", "([I[I)V"⟩
def dkwX1_over_0 : List UInt8 := [42, 3, 43, 3, 43, 190, 184, 0, 48, 177]
abbrev dktX1_over_0 : List UInt8 := dkwX1_over_0 ++ []
theorem dksX1_over_0 : cX1_over.data.toList.drop 0 = dktX1_over_0 := by decide +kernel
theorem dX1_over_0 : decode cX1_over 0 = .ok (.aload_n 0, 1) := dk_42 (dk_at dksX1_over_0 0 rfl rfl)
theorem dX1_over_1 : decode cX1_over 1 = .ok (.iconst 0, 1) := dk_3 (dk_at dksX1_over_0 1 rfl rfl)
theorem dX1_over_2 : decode cX1_over 2 = .ok (.aload_n 1, 1) := dk_43 (dk_at dksX1_over_0 2 rfl rfl)
theorem dX1_over_3 : decode cX1_over 3 = .ok (.iconst 0, 1) := dk_3 (dk_at dksX1_over_0 3 rfl rfl)
theorem dX1_over_4 : decode cX1_over 4 = .ok (.aload_n 1, 1) := dk_43 (dk_at dksX1_over_0 4 rfl rfl)
theorem dX1_over_5 : decode cX1_over 5 = .ok (.arraylength, 1) := dk_190 (dk_at dksX1_over_0 5 rfl rfl)
theorem dX1_over_6 : decode cX1_over 6 = .ok (.invokestatic 48, 3) := dk_184 0 48 (dk_at dksX1_over_0 6 rfl rfl)
theorem dX1_over_9 : decode cX1_over 9 = .ok (.return_, 1) := dk_177 (dk_at dksX1_over_0 9 rfl rfl)
abbrev cX1_draw : ByteArray := prog_6_method_7_code
def yX1_draw : MethodName := ⟨RX1, "draw", "(I)I"⟩
def dkwX1_draw_1 : List UInt8 := [20, 0, 77, 105, 20, 0, 79, 97, 20, 0, 81, 113, 136, 79, 28, 172]
abbrev dktX1_draw_1 : List UInt8 := dkwX1_draw_1 ++ []
def dkwX1_draw_0 : List UInt8 := [42, 180, 0, 25, 16, 22, 46, 27, 112, 61, 42, 180, 0, 25, 16, 22, 42, 180, 0, 25, 16, 22, 46, 133]
abbrev dktX1_draw_0 : List UInt8 := dkwX1_draw_0 ++ dktX1_draw_1
theorem dksX1_draw_0 : cX1_draw.data.toList.drop 0 = dktX1_draw_0 := by decide +kernel
theorem dksX1_draw_1 : cX1_draw.data.toList.drop 24 = dktX1_draw_1 := dk_seg dksX1_draw_0 24 rfl rfl
theorem dX1_draw_0 : decode cX1_draw 0 = .ok (.aload_n 0, 1) := dk_42 (dk_at dksX1_draw_0 0 rfl rfl)
theorem dX1_draw_1 : decode cX1_draw 1 = .ok (.getfield 25, 3) := dk_180 0 25 (dk_at dksX1_draw_0 1 rfl rfl)
theorem dX1_draw_4 : decode cX1_draw 4 = .ok (.bipush 22, 2) := dk_16 22 (dk_at dksX1_draw_0 4 rfl rfl)
theorem dX1_draw_6 : decode cX1_draw 6 = .ok (.iaload, 1) := dk_46 (dk_at dksX1_draw_0 6 rfl rfl)
theorem dX1_draw_7 : decode cX1_draw 7 = .ok (.iload_n 1, 1) := dk_27 (dk_at dksX1_draw_0 7 rfl rfl)
theorem dX1_draw_8 : decode cX1_draw 8 = .ok (.irem, 1) := dk_112 (dk_at dksX1_draw_0 8 rfl rfl)
theorem dX1_draw_9 : decode cX1_draw 9 = .ok (.istore_n 2, 1) := dk_61 (dk_at dksX1_draw_0 9 rfl rfl)
theorem dX1_draw_10 : decode cX1_draw 10 = .ok (.aload_n 0, 1) := dk_42 (dk_at dksX1_draw_0 10 rfl rfl)
theorem dX1_draw_11 : decode cX1_draw 11 = .ok (.getfield 25, 3) := dk_180 0 25 (dk_at dksX1_draw_0 11 rfl rfl)
theorem dX1_draw_14 : decode cX1_draw 14 = .ok (.bipush 22, 2) := dk_16 22 (dk_at dksX1_draw_0 14 rfl rfl)
theorem dX1_draw_16 : decode cX1_draw 16 = .ok (.aload_n 0, 1) := dk_42 (dk_at dksX1_draw_0 16 rfl rfl)
theorem dX1_draw_17 : decode cX1_draw 17 = .ok (.getfield 25, 3) := dk_180 0 25 (dk_at dksX1_draw_0 17 rfl rfl)
theorem dX1_draw_20 : decode cX1_draw 20 = .ok (.bipush 22, 2) := dk_16 22 (dk_at dksX1_draw_0 20 rfl rfl)
theorem dX1_draw_22 : decode cX1_draw 22 = .ok (.iaload, 1) := dk_46 (dk_at dksX1_draw_0 22 rfl rfl)
theorem dX1_draw_23 : decode cX1_draw 23 = .ok (.i2l, 1) := dk_133 (dk_at dksX1_draw_0 23 rfl rfl)
theorem dX1_draw_24 : decode cX1_draw 24 = .ok (.ldc2_w 77, 3) := dk_20 0 77 (dk_at dksX1_draw_1 0 rfl rfl)
theorem dX1_draw_27 : decode cX1_draw 27 = .ok (.lmul, 1) := dk_105 (dk_at dksX1_draw_1 3 rfl rfl)
theorem dX1_draw_28 : decode cX1_draw 28 = .ok (.ldc2_w 79, 3) := dk_20 0 79 (dk_at dksX1_draw_1 4 rfl rfl)
theorem dX1_draw_31 : decode cX1_draw 31 = .ok (.ladd, 1) := dk_97 (dk_at dksX1_draw_1 7 rfl rfl)
theorem dX1_draw_32 : decode cX1_draw 32 = .ok (.ldc2_w 81, 3) := dk_20 0 81 (dk_at dksX1_draw_1 8 rfl rfl)
theorem dX1_draw_35 : decode cX1_draw 35 = .ok (.lrem, 1) := dk_113 (dk_at dksX1_draw_1 11 rfl rfl)
theorem dX1_draw_36 : decode cX1_draw 36 = .ok (.l2i, 1) := dk_136 (dk_at dksX1_draw_1 12 rfl rfl)
theorem dX1_draw_37 : decode cX1_draw 37 = .ok (.iastore, 1) := dk_79 (dk_at dksX1_draw_1 13 rfl rfl)
theorem dX1_draw_38 : decode cX1_draw 38 = .ok (.iload_n 2, 1) := dk_28 (dk_at dksX1_draw_1 14 rfl rfl)
theorem dX1_draw_39 : decode cX1_draw 39 = .ok (.ireturn, 1) := dk_172 (dk_at dksX1_draw_1 15 rfl rfl)
abbrev cX1_takeBack : ByteArray := prog_6_method_6_code
def yX1_takeBack : MethodName := ⟨RX1, "takeBack", "()V"⟩
def dkwX1_takeBack_3 : List UInt8 := [177]
abbrev dktX1_takeBack_3 : List UInt8 := dkwX1_takeBack_3 ++ []
def dkwX1_takeBack_2 : List UInt8 := [180, 0, 25, 7, 27, 96, 5, 79, 42, 180, 0, 25, 16, 13, 27, 96, 3, 79, 132, 1, 1, 167, 255, 226]
abbrev dktX1_takeBack_2 : List UInt8 := dkwX1_takeBack_2 ++ dktX1_takeBack_3
def dkwX1_takeBack_1 : List UInt8 := [184, 0, 54, 42, 180, 0, 28, 42, 180, 0, 64, 46, 60, 27, 42, 180, 0, 58, 162, 0, 28, 42]
abbrev dktX1_takeBack_1 : List UInt8 := dkwX1_takeBack_1 ++ dktX1_takeBack_2
def dkwX1_takeBack_0 : List UInt8 := [42, 89, 180, 0, 64, 4, 100, 181, 0, 64, 42, 180, 0, 33, 42, 180, 0, 64, 50, 42, 180, 0, 25]
abbrev dktX1_takeBack_0 : List UInt8 := dkwX1_takeBack_0 ++ dktX1_takeBack_1
theorem dksX1_takeBack_0 : cX1_takeBack.data.toList.drop 0 = dktX1_takeBack_0 := by decide +kernel
theorem dksX1_takeBack_1 : cX1_takeBack.data.toList.drop 23 = dktX1_takeBack_1 := dk_seg dksX1_takeBack_0 23 rfl rfl
theorem dksX1_takeBack_2 : cX1_takeBack.data.toList.drop 45 = dktX1_takeBack_2 := dk_seg dksX1_takeBack_1 22 rfl rfl
theorem dksX1_takeBack_3 : cX1_takeBack.data.toList.drop 69 = dktX1_takeBack_3 := dk_seg dksX1_takeBack_2 24 rfl rfl
theorem dX1_takeBack_0 : decode cX1_takeBack 0 = .ok (.aload_n 0, 1) := dk_42 (dk_at dksX1_takeBack_0 0 rfl rfl)
theorem dX1_takeBack_1 : decode cX1_takeBack 1 = .ok (.dup, 1) := dk_89 (dk_at dksX1_takeBack_0 1 rfl rfl)
theorem dX1_takeBack_2 : decode cX1_takeBack 2 = .ok (.getfield 64, 3) := dk_180 0 64 (dk_at dksX1_takeBack_0 2 rfl rfl)
theorem dX1_takeBack_5 : decode cX1_takeBack 5 = .ok (.iconst 1, 1) := dk_4 (dk_at dksX1_takeBack_0 5 rfl rfl)
theorem dX1_takeBack_6 : decode cX1_takeBack 6 = .ok (.isub, 1) := dk_100 (dk_at dksX1_takeBack_0 6 rfl rfl)
theorem dX1_takeBack_7 : decode cX1_takeBack 7 = .ok (.putfield 64, 3) := dk_181 0 64 (dk_at dksX1_takeBack_0 7 rfl rfl)
theorem dX1_takeBack_10 : decode cX1_takeBack 10 = .ok (.aload_n 0, 1) := dk_42 (dk_at dksX1_takeBack_0 10 rfl rfl)
theorem dX1_takeBack_11 : decode cX1_takeBack 11 = .ok (.getfield 33, 3) := dk_180 0 33 (dk_at dksX1_takeBack_0 11 rfl rfl)
theorem dX1_takeBack_14 : decode cX1_takeBack 14 = .ok (.aload_n 0, 1) := dk_42 (dk_at dksX1_takeBack_0 14 rfl rfl)
theorem dX1_takeBack_15 : decode cX1_takeBack 15 = .ok (.getfield 64, 3) := dk_180 0 64 (dk_at dksX1_takeBack_0 15 rfl rfl)
theorem dX1_takeBack_18 : decode cX1_takeBack 18 = .ok (.aaload, 1) := dk_50 (dk_at dksX1_takeBack_0 18 rfl rfl)
theorem dX1_takeBack_19 : decode cX1_takeBack 19 = .ok (.aload_n 0, 1) := dk_42 (dk_at dksX1_takeBack_0 19 rfl rfl)
theorem dX1_takeBack_20 : decode cX1_takeBack 20 = .ok (.getfield 25, 3) := dk_180 0 25 (dk_at dksX1_takeBack_0 20 rfl rfl)
theorem dX1_takeBack_23 : decode cX1_takeBack 23 = .ok (.invokestatic 54, 3) := dk_184 0 54 (dk_at dksX1_takeBack_1 0 rfl rfl)
theorem dX1_takeBack_26 : decode cX1_takeBack 26 = .ok (.aload_n 0, 1) := dk_42 (dk_at dksX1_takeBack_1 3 rfl rfl)
theorem dX1_takeBack_27 : decode cX1_takeBack 27 = .ok (.getfield 28, 3) := dk_180 0 28 (dk_at dksX1_takeBack_1 4 rfl rfl)
theorem dX1_takeBack_30 : decode cX1_takeBack 30 = .ok (.aload_n 0, 1) := dk_42 (dk_at dksX1_takeBack_1 7 rfl rfl)
theorem dX1_takeBack_31 : decode cX1_takeBack 31 = .ok (.getfield 64, 3) := dk_180 0 64 (dk_at dksX1_takeBack_1 8 rfl rfl)
theorem dX1_takeBack_34 : decode cX1_takeBack 34 = .ok (.iaload, 1) := dk_46 (dk_at dksX1_takeBack_1 11 rfl rfl)
theorem dX1_takeBack_35 : decode cX1_takeBack 35 = .ok (.istore_n 1, 1) := dk_60 (dk_at dksX1_takeBack_1 12 rfl rfl)
theorem dX1_takeBack_36 : decode cX1_takeBack 36 = .ok (.iload_n 1, 1) := dk_27 (dk_at dksX1_takeBack_1 13 rfl rfl)
theorem dX1_takeBack_37 : decode cX1_takeBack 37 = .ok (.aload_n 0, 1) := dk_42 (dk_at dksX1_takeBack_1 14 rfl rfl)
theorem dX1_takeBack_38 : decode cX1_takeBack 38 = .ok (.getfield 58, 3) := dk_180 0 58 (dk_at dksX1_takeBack_1 15 rfl rfl)
theorem dX1_takeBack_41 : decode cX1_takeBack 41 = .ok (.if_icmp .ge 28, 3) := dk_162 0 28 (dk_at dksX1_takeBack_1 18 rfl rfl)
theorem dX1_takeBack_44 : decode cX1_takeBack 44 = .ok (.aload_n 0, 1) := dk_42 (dk_at dksX1_takeBack_1 21 rfl rfl)
theorem dX1_takeBack_45 : decode cX1_takeBack 45 = .ok (.getfield 25, 3) := dk_180 0 25 (dk_at dksX1_takeBack_2 0 rfl rfl)
theorem dX1_takeBack_48 : decode cX1_takeBack 48 = .ok (.iconst 4, 1) := dk_7 (dk_at dksX1_takeBack_2 3 rfl rfl)
theorem dX1_takeBack_49 : decode cX1_takeBack 49 = .ok (.iload_n 1, 1) := dk_27 (dk_at dksX1_takeBack_2 4 rfl rfl)
theorem dX1_takeBack_50 : decode cX1_takeBack 50 = .ok (.iadd, 1) := dk_96 (dk_at dksX1_takeBack_2 5 rfl rfl)
theorem dX1_takeBack_51 : decode cX1_takeBack 51 = .ok (.iconst 2, 1) := dk_5 (dk_at dksX1_takeBack_2 6 rfl rfl)
theorem dX1_takeBack_52 : decode cX1_takeBack 52 = .ok (.iastore, 1) := dk_79 (dk_at dksX1_takeBack_2 7 rfl rfl)
theorem dX1_takeBack_53 : decode cX1_takeBack 53 = .ok (.aload_n 0, 1) := dk_42 (dk_at dksX1_takeBack_2 8 rfl rfl)
theorem dX1_takeBack_54 : decode cX1_takeBack 54 = .ok (.getfield 25, 3) := dk_180 0 25 (dk_at dksX1_takeBack_2 9 rfl rfl)
theorem dX1_takeBack_57 : decode cX1_takeBack 57 = .ok (.bipush 13, 2) := dk_16 13 (dk_at dksX1_takeBack_2 12 rfl rfl)
theorem dX1_takeBack_59 : decode cX1_takeBack 59 = .ok (.iload_n 1, 1) := dk_27 (dk_at dksX1_takeBack_2 14 rfl rfl)
theorem dX1_takeBack_60 : decode cX1_takeBack 60 = .ok (.iadd, 1) := dk_96 (dk_at dksX1_takeBack_2 15 rfl rfl)
theorem dX1_takeBack_61 : decode cX1_takeBack 61 = .ok (.iconst 0, 1) := dk_3 (dk_at dksX1_takeBack_2 16 rfl rfl)
theorem dX1_takeBack_62 : decode cX1_takeBack 62 = .ok (.iastore, 1) := dk_79 (dk_at dksX1_takeBack_2 17 rfl rfl)
theorem dX1_takeBack_63 : decode cX1_takeBack 63 = .ok (.iinc 1 1, 3) := dk_132 1 1 (dk_at dksX1_takeBack_2 18 rfl rfl)
theorem dX1_takeBack_66 : decode cX1_takeBack 66 = .ok (.goto (-30), 3) := dk_167 255 226 (dk_at dksX1_takeBack_2 21 rfl rfl)
theorem dX1_takeBack_69 : decode cX1_takeBack 69 = .ok (.return_, 1) := dk_177 (dk_at dksX1_takeBack_3 0 rfl rfl)
abbrev cX1_lay : ByteArray := prog_6_method_4_code
def yX1_lay : MethodName := ⟨RX1, "lay", "(LSpoonScales$Court;)V"⟩
def dkwX1_lay_6 : List UInt8 := [180, 0, 42, 42, 180, 0, 42, 184, 0, 73, 43, 180, 0, 45, 42, 180, 0, 45, 184, 0, 73, 177]
abbrev dktX1_lay_6 : List UInt8 := dkwX1_lay_6 ++ []
def dkwX1_lay_5 : List UInt8 := [180, 0, 36, 42, 180, 0, 36, 184, 0, 73, 43, 180, 0, 39, 42, 180, 0, 39, 184, 0, 73, 43]
abbrev dktX1_lay_5 : List UInt8 := dkwX1_lay_5 ++ dktX1_lay_6
def dkwX1_lay_4 : List UInt8 := [180, 0, 28, 42, 180, 0, 28, 184, 0, 54, 43, 180, 0, 33, 42, 180, 0, 33, 184, 0, 73, 43]
abbrev dktX1_lay_4 : List UInt8 := dkwX1_lay_4 ++ dktX1_lay_5
def dkwX1_lay_3 : List UInt8 := [180, 0, 22, 42, 180, 0, 22, 184, 0, 54, 43, 180, 0, 25, 42, 180, 0, 25, 184, 0, 54, 43]
abbrev dktX1_lay_3 : List UInt8 := dkwX1_lay_3 ++ dktX1_lay_4
def dkwX1_lay_2 : List UInt8 := [43, 180, 0, 15, 42, 180, 0, 15, 184, 0, 54, 43, 180, 0, 19, 42, 180, 0, 19, 184, 0, 54, 43]
abbrev dktX1_lay_2 : List UInt8 := dkwX1_lay_2 ++ dktX1_lay_3
def dkwX1_lay_1 : List UInt8 := [42, 43, 180, 0, 64, 181, 0, 64, 42, 43, 180, 0, 67, 181, 0, 67, 42, 43, 180, 0, 70, 181, 0, 70]
abbrev dktX1_lay_1 : List UInt8 := dkwX1_lay_1 ++ dktX1_lay_2
def dkwX1_lay_0 : List UInt8 := [42, 43, 180, 0, 58, 181, 0, 58, 42, 43, 180, 0, 61, 181, 0, 61, 42, 43, 180, 0, 9, 181, 0, 9]
abbrev dktX1_lay_0 : List UInt8 := dkwX1_lay_0 ++ dktX1_lay_1
theorem dksX1_lay_0 : cX1_lay.data.toList.drop 0 = dktX1_lay_0 := by decide +kernel
theorem dksX1_lay_1 : cX1_lay.data.toList.drop 24 = dktX1_lay_1 := dk_seg dksX1_lay_0 24 rfl rfl
theorem dksX1_lay_2 : cX1_lay.data.toList.drop 48 = dktX1_lay_2 := dk_seg dksX1_lay_1 24 rfl rfl
theorem dksX1_lay_3 : cX1_lay.data.toList.drop 71 = dktX1_lay_3 := dk_seg dksX1_lay_2 23 rfl rfl
theorem dksX1_lay_4 : cX1_lay.data.toList.drop 93 = dktX1_lay_4 := dk_seg dksX1_lay_3 22 rfl rfl
theorem dksX1_lay_5 : cX1_lay.data.toList.drop 115 = dktX1_lay_5 := dk_seg dksX1_lay_4 22 rfl rfl
theorem dksX1_lay_6 : cX1_lay.data.toList.drop 137 = dktX1_lay_6 := dk_seg dksX1_lay_5 22 rfl rfl
theorem dX1_lay_0 : decode cX1_lay 0 = .ok (.aload_n 0, 1) := dk_42 (dk_at dksX1_lay_0 0 rfl rfl)
theorem dX1_lay_1 : decode cX1_lay 1 = .ok (.aload_n 1, 1) := dk_43 (dk_at dksX1_lay_0 1 rfl rfl)
theorem dX1_lay_2 : decode cX1_lay 2 = .ok (.getfield 58, 3) := dk_180 0 58 (dk_at dksX1_lay_0 2 rfl rfl)
theorem dX1_lay_5 : decode cX1_lay 5 = .ok (.putfield 58, 3) := dk_181 0 58 (dk_at dksX1_lay_0 5 rfl rfl)
theorem dX1_lay_8 : decode cX1_lay 8 = .ok (.aload_n 0, 1) := dk_42 (dk_at dksX1_lay_0 8 rfl rfl)
theorem dX1_lay_9 : decode cX1_lay 9 = .ok (.aload_n 1, 1) := dk_43 (dk_at dksX1_lay_0 9 rfl rfl)
theorem dX1_lay_10 : decode cX1_lay 10 = .ok (.getfield 61, 3) := dk_180 0 61 (dk_at dksX1_lay_0 10 rfl rfl)
theorem dX1_lay_13 : decode cX1_lay 13 = .ok (.putfield 61, 3) := dk_181 0 61 (dk_at dksX1_lay_0 13 rfl rfl)
theorem dX1_lay_16 : decode cX1_lay 16 = .ok (.aload_n 0, 1) := dk_42 (dk_at dksX1_lay_0 16 rfl rfl)
theorem dX1_lay_17 : decode cX1_lay 17 = .ok (.aload_n 1, 1) := dk_43 (dk_at dksX1_lay_0 17 rfl rfl)
theorem dX1_lay_18 : decode cX1_lay 18 = .ok (.getfield 9, 3) := dk_180 0 9 (dk_at dksX1_lay_0 18 rfl rfl)
theorem dX1_lay_21 : decode cX1_lay 21 = .ok (.putfield 9, 3) := dk_181 0 9 (dk_at dksX1_lay_0 21 rfl rfl)
theorem dX1_lay_24 : decode cX1_lay 24 = .ok (.aload_n 0, 1) := dk_42 (dk_at dksX1_lay_1 0 rfl rfl)
theorem dX1_lay_25 : decode cX1_lay 25 = .ok (.aload_n 1, 1) := dk_43 (dk_at dksX1_lay_1 1 rfl rfl)
theorem dX1_lay_26 : decode cX1_lay 26 = .ok (.getfield 64, 3) := dk_180 0 64 (dk_at dksX1_lay_1 2 rfl rfl)
theorem dX1_lay_29 : decode cX1_lay 29 = .ok (.putfield 64, 3) := dk_181 0 64 (dk_at dksX1_lay_1 5 rfl rfl)
theorem dX1_lay_32 : decode cX1_lay 32 = .ok (.aload_n 0, 1) := dk_42 (dk_at dksX1_lay_1 8 rfl rfl)
theorem dX1_lay_33 : decode cX1_lay 33 = .ok (.aload_n 1, 1) := dk_43 (dk_at dksX1_lay_1 9 rfl rfl)
theorem dX1_lay_34 : decode cX1_lay 34 = .ok (.getfield 67, 3) := dk_180 0 67 (dk_at dksX1_lay_1 10 rfl rfl)
theorem dX1_lay_37 : decode cX1_lay 37 = .ok (.putfield 67, 3) := dk_181 0 67 (dk_at dksX1_lay_1 13 rfl rfl)
theorem dX1_lay_40 : decode cX1_lay 40 = .ok (.aload_n 0, 1) := dk_42 (dk_at dksX1_lay_1 16 rfl rfl)
theorem dX1_lay_41 : decode cX1_lay 41 = .ok (.aload_n 1, 1) := dk_43 (dk_at dksX1_lay_1 17 rfl rfl)
theorem dX1_lay_42 : decode cX1_lay 42 = .ok (.getfield 70, 3) := dk_180 0 70 (dk_at dksX1_lay_1 18 rfl rfl)
theorem dX1_lay_45 : decode cX1_lay 45 = .ok (.putfield 70, 3) := dk_181 0 70 (dk_at dksX1_lay_1 21 rfl rfl)
theorem dX1_lay_48 : decode cX1_lay 48 = .ok (.aload_n 1, 1) := dk_43 (dk_at dksX1_lay_2 0 rfl rfl)
theorem dX1_lay_49 : decode cX1_lay 49 = .ok (.getfield 15, 3) := dk_180 0 15 (dk_at dksX1_lay_2 1 rfl rfl)
theorem dX1_lay_52 : decode cX1_lay 52 = .ok (.aload_n 0, 1) := dk_42 (dk_at dksX1_lay_2 4 rfl rfl)
theorem dX1_lay_53 : decode cX1_lay 53 = .ok (.getfield 15, 3) := dk_180 0 15 (dk_at dksX1_lay_2 5 rfl rfl)
theorem dX1_lay_56 : decode cX1_lay 56 = .ok (.invokestatic 54, 3) := dk_184 0 54 (dk_at dksX1_lay_2 8 rfl rfl)
theorem dX1_lay_59 : decode cX1_lay 59 = .ok (.aload_n 1, 1) := dk_43 (dk_at dksX1_lay_2 11 rfl rfl)
theorem dX1_lay_60 : decode cX1_lay 60 = .ok (.getfield 19, 3) := dk_180 0 19 (dk_at dksX1_lay_2 12 rfl rfl)
theorem dX1_lay_63 : decode cX1_lay 63 = .ok (.aload_n 0, 1) := dk_42 (dk_at dksX1_lay_2 15 rfl rfl)
theorem dX1_lay_64 : decode cX1_lay 64 = .ok (.getfield 19, 3) := dk_180 0 19 (dk_at dksX1_lay_2 16 rfl rfl)
theorem dX1_lay_67 : decode cX1_lay 67 = .ok (.invokestatic 54, 3) := dk_184 0 54 (dk_at dksX1_lay_2 19 rfl rfl)
theorem dX1_lay_70 : decode cX1_lay 70 = .ok (.aload_n 1, 1) := dk_43 (dk_at dksX1_lay_2 22 rfl rfl)
theorem dX1_lay_71 : decode cX1_lay 71 = .ok (.getfield 22, 3) := dk_180 0 22 (dk_at dksX1_lay_3 0 rfl rfl)
theorem dX1_lay_74 : decode cX1_lay 74 = .ok (.aload_n 0, 1) := dk_42 (dk_at dksX1_lay_3 3 rfl rfl)
theorem dX1_lay_75 : decode cX1_lay 75 = .ok (.getfield 22, 3) := dk_180 0 22 (dk_at dksX1_lay_3 4 rfl rfl)
theorem dX1_lay_78 : decode cX1_lay 78 = .ok (.invokestatic 54, 3) := dk_184 0 54 (dk_at dksX1_lay_3 7 rfl rfl)
theorem dX1_lay_81 : decode cX1_lay 81 = .ok (.aload_n 1, 1) := dk_43 (dk_at dksX1_lay_3 10 rfl rfl)
theorem dX1_lay_82 : decode cX1_lay 82 = .ok (.getfield 25, 3) := dk_180 0 25 (dk_at dksX1_lay_3 11 rfl rfl)
theorem dX1_lay_85 : decode cX1_lay 85 = .ok (.aload_n 0, 1) := dk_42 (dk_at dksX1_lay_3 14 rfl rfl)
theorem dX1_lay_86 : decode cX1_lay 86 = .ok (.getfield 25, 3) := dk_180 0 25 (dk_at dksX1_lay_3 15 rfl rfl)
theorem dX1_lay_89 : decode cX1_lay 89 = .ok (.invokestatic 54, 3) := dk_184 0 54 (dk_at dksX1_lay_3 18 rfl rfl)
theorem dX1_lay_92 : decode cX1_lay 92 = .ok (.aload_n 1, 1) := dk_43 (dk_at dksX1_lay_3 21 rfl rfl)
theorem dX1_lay_93 : decode cX1_lay 93 = .ok (.getfield 28, 3) := dk_180 0 28 (dk_at dksX1_lay_4 0 rfl rfl)
theorem dX1_lay_96 : decode cX1_lay 96 = .ok (.aload_n 0, 1) := dk_42 (dk_at dksX1_lay_4 3 rfl rfl)
theorem dX1_lay_97 : decode cX1_lay 97 = .ok (.getfield 28, 3) := dk_180 0 28 (dk_at dksX1_lay_4 4 rfl rfl)
theorem dX1_lay_100 : decode cX1_lay 100 = .ok (.invokestatic 54, 3) := dk_184 0 54 (dk_at dksX1_lay_4 7 rfl rfl)
theorem dX1_lay_103 : decode cX1_lay 103 = .ok (.aload_n 1, 1) := dk_43 (dk_at dksX1_lay_4 10 rfl rfl)
theorem dX1_lay_104 : decode cX1_lay 104 = .ok (.getfield 33, 3) := dk_180 0 33 (dk_at dksX1_lay_4 11 rfl rfl)
theorem dX1_lay_107 : decode cX1_lay 107 = .ok (.aload_n 0, 1) := dk_42 (dk_at dksX1_lay_4 14 rfl rfl)
theorem dX1_lay_108 : decode cX1_lay 108 = .ok (.getfield 33, 3) := dk_180 0 33 (dk_at dksX1_lay_4 15 rfl rfl)
theorem dX1_lay_111 : decode cX1_lay 111 = .ok (.invokestatic 73, 3) := dk_184 0 73 (dk_at dksX1_lay_4 18 rfl rfl)
theorem dX1_lay_114 : decode cX1_lay 114 = .ok (.aload_n 1, 1) := dk_43 (dk_at dksX1_lay_4 21 rfl rfl)
theorem dX1_lay_115 : decode cX1_lay 115 = .ok (.getfield 36, 3) := dk_180 0 36 (dk_at dksX1_lay_5 0 rfl rfl)
theorem dX1_lay_118 : decode cX1_lay 118 = .ok (.aload_n 0, 1) := dk_42 (dk_at dksX1_lay_5 3 rfl rfl)
theorem dX1_lay_119 : decode cX1_lay 119 = .ok (.getfield 36, 3) := dk_180 0 36 (dk_at dksX1_lay_5 4 rfl rfl)
theorem dX1_lay_122 : decode cX1_lay 122 = .ok (.invokestatic 73, 3) := dk_184 0 73 (dk_at dksX1_lay_5 7 rfl rfl)
theorem dX1_lay_125 : decode cX1_lay 125 = .ok (.aload_n 1, 1) := dk_43 (dk_at dksX1_lay_5 10 rfl rfl)
theorem dX1_lay_126 : decode cX1_lay 126 = .ok (.getfield 39, 3) := dk_180 0 39 (dk_at dksX1_lay_5 11 rfl rfl)
theorem dX1_lay_129 : decode cX1_lay 129 = .ok (.aload_n 0, 1) := dk_42 (dk_at dksX1_lay_5 14 rfl rfl)
theorem dX1_lay_130 : decode cX1_lay 130 = .ok (.getfield 39, 3) := dk_180 0 39 (dk_at dksX1_lay_5 15 rfl rfl)
theorem dX1_lay_133 : decode cX1_lay 133 = .ok (.invokestatic 73, 3) := dk_184 0 73 (dk_at dksX1_lay_5 18 rfl rfl)
theorem dX1_lay_136 : decode cX1_lay 136 = .ok (.aload_n 1, 1) := dk_43 (dk_at dksX1_lay_5 21 rfl rfl)
theorem dX1_lay_137 : decode cX1_lay 137 = .ok (.getfield 42, 3) := dk_180 0 42 (dk_at dksX1_lay_6 0 rfl rfl)
theorem dX1_lay_140 : decode cX1_lay 140 = .ok (.aload_n 0, 1) := dk_42 (dk_at dksX1_lay_6 3 rfl rfl)
theorem dX1_lay_141 : decode cX1_lay 141 = .ok (.getfield 42, 3) := dk_180 0 42 (dk_at dksX1_lay_6 4 rfl rfl)
theorem dX1_lay_144 : decode cX1_lay 144 = .ok (.invokestatic 73, 3) := dk_184 0 73 (dk_at dksX1_lay_6 7 rfl rfl)
theorem dX1_lay_147 : decode cX1_lay 147 = .ok (.aload_n 1, 1) := dk_43 (dk_at dksX1_lay_6 10 rfl rfl)
theorem dX1_lay_148 : decode cX1_lay 148 = .ok (.getfield 45, 3) := dk_180 0 45 (dk_at dksX1_lay_6 11 rfl rfl)
theorem dX1_lay_151 : decode cX1_lay 151 = .ok (.aload_n 0, 1) := dk_42 (dk_at dksX1_lay_6 14 rfl rfl)
theorem dX1_lay_152 : decode cX1_lay 152 = .ok (.getfield 45, 3) := dk_180 0 45 (dk_at dksX1_lay_6 15 rfl rfl)
theorem dX1_lay_155 : decode cX1_lay 155 = .ok (.invokestatic 73, 3) := dk_184 0 73 (dk_at dksX1_lay_6 18 rfl rfl)
theorem dX1_lay_158 : decode cX1_lay 158 = .ok (.return_, 1) := dk_177 (dk_at dksX1_lay_6 21 rfl rfl)
abbrev cX1_overAll : ByteArray := prog_6_method_3_code
def yX1_overAll : MethodName := ⟨RX1, "overAll", "([[I[[I)V"⟩
def dkwX1_overAll_0 : List UInt8 := [3, 61, 28, 43, 190, 162, 0, 18, 42, 28, 50, 43, 28, 50, 184, 0, 54, 132, 2, 1, 167, 255, 238, 177]
abbrev dktX1_overAll_0 : List UInt8 := dkwX1_overAll_0 ++ []
theorem dksX1_overAll_0 : cX1_overAll.data.toList.drop 0 = dktX1_overAll_0 := by decide +kernel
theorem dX1_overAll_0 : decode cX1_overAll 0 = .ok (.iconst 0, 1) := dk_3 (dk_at dksX1_overAll_0 0 rfl rfl)
theorem dX1_overAll_1 : decode cX1_overAll 1 = .ok (.istore_n 2, 1) := dk_61 (dk_at dksX1_overAll_0 1 rfl rfl)
theorem dX1_overAll_2 : decode cX1_overAll 2 = .ok (.iload_n 2, 1) := dk_28 (dk_at dksX1_overAll_0 2 rfl rfl)
theorem dX1_overAll_3 : decode cX1_overAll 3 = .ok (.aload_n 1, 1) := dk_43 (dk_at dksX1_overAll_0 3 rfl rfl)
theorem dX1_overAll_4 : decode cX1_overAll 4 = .ok (.arraylength, 1) := dk_190 (dk_at dksX1_overAll_0 4 rfl rfl)
theorem dX1_overAll_5 : decode cX1_overAll 5 = .ok (.if_icmp .ge 18, 3) := dk_162 0 18 (dk_at dksX1_overAll_0 5 rfl rfl)
theorem dX1_overAll_8 : decode cX1_overAll 8 = .ok (.aload_n 0, 1) := dk_42 (dk_at dksX1_overAll_0 8 rfl rfl)
theorem dX1_overAll_9 : decode cX1_overAll 9 = .ok (.iload_n 2, 1) := dk_28 (dk_at dksX1_overAll_0 9 rfl rfl)
theorem dX1_overAll_10 : decode cX1_overAll 10 = .ok (.aaload, 1) := dk_50 (dk_at dksX1_overAll_0 10 rfl rfl)
theorem dX1_overAll_11 : decode cX1_overAll 11 = .ok (.aload_n 1, 1) := dk_43 (dk_at dksX1_overAll_0 11 rfl rfl)
theorem dX1_overAll_12 : decode cX1_overAll 12 = .ok (.iload_n 2, 1) := dk_28 (dk_at dksX1_overAll_0 12 rfl rfl)
theorem dX1_overAll_13 : decode cX1_overAll 13 = .ok (.aaload, 1) := dk_50 (dk_at dksX1_overAll_0 13 rfl rfl)
theorem dX1_overAll_14 : decode cX1_overAll 14 = .ok (.invokestatic 54, 3) := dk_184 0 54 (dk_at dksX1_overAll_0 14 rfl rfl)
theorem dX1_overAll_17 : decode cX1_overAll 17 = .ok (.iinc 2 1, 3) := dk_132 2 1 (dk_at dksX1_overAll_0 17 rfl rfl)
theorem dX1_overAll_20 : decode cX1_overAll 20 = .ok (.goto (-18), 3) := dk_167 255 238 (dk_at dksX1_overAll_0 20 rfl rfl)
theorem dX1_overAll_23 : decode cX1_overAll 23 = .ok (.return_, 1) := dk_177 (dk_at dksX1_overAll_0 23 rfl rfl)
theorem q75 : (Jvm.Cond.initialized "SpoonScales$Court") ∈ lw_all := lw_g (lw_at lw_m1 2 rfl) rfl
theorem q113 : (Jvm.Cond.instantiable "SpoonScales$Court" (16 : Nat)) ∈ lw_all := lw_g (lw_at lw_m1 40 rfl) rfl
theorem q115 : (Jvm.Cond.instanceMethod ({ cls := "SpoonScales$Court", name := "<init>", desc := "()V" } : Jvm.MethodName)) ∈ lw_all := lw_g (lw_at lw_m1 42 rfl) rfl
theorem q116 : (Jvm.Cond.code ({ cls := "SpoonScales$Court", name := "<init>", desc := "()V" } : Jvm.MethodName) prog_6_method_1_code (1 : Nat) (Option.none : Option Jvm.ClassFile.FieldType)) ∈ lw_all := lw_g (lw_at lw_m1 43 rfl) rfl
theorem q117 : (Jvm.Cond.methodLink "SpoonScales$Court" (3 : Nat) ({ cls := "java/lang/Object", name := "<init>", desc := "()V" } : Jvm.MethodName)) ∈ lw_all := lw_g (lw_at lw_m1 44 rfl) rfl
theorem q118 : (Jvm.Cond.classLink "SpoonScales$Court" (31 : Nat) "[[I") ∈ lw_all := lw_g (lw_at lw_m1 45 rfl) rfl
theorem q120 : (Jvm.Cond.fieldLink "SpoonScales$Court" (58 : Nat) "SpoonScales$Court" "eaters" "I") ∈ lw_all := lw_g (lw_at lw_m1 47 rfl) rfl
theorem q122 : (Jvm.Cond.fieldLink "SpoonScales$Court" (61 : Nat) "SpoonScales$Court" "texts" "I") ∈ lw_all := lw_g (lw_at lw_m1 49 rfl) rfl
theorem q124 : (Jvm.Cond.fieldLink "SpoonScales$Court" (9 : Nat) "SpoonScales$Court" "text" "I") ∈ lw_all := lw_g (lw_at lw_m1 51 rfl) rfl
theorem q126 : (Jvm.Cond.fieldLink "SpoonScales$Court" (64 : Nat) "SpoonScales$Court" "steps" "I") ∈ lw_all := lw_g (lw_at lw_m1 53 rfl) rfl
theorem q128 : (Jvm.Cond.fieldLink "SpoonScales$Court" (67 : Nat) "SpoonScales$Court" "tests" "I") ∈ lw_all := lw_g (lw_at lw_m1 55 rfl) rfl
theorem q130 : (Jvm.Cond.fieldLink "SpoonScales$Court" (70 : Nat) "SpoonScales$Court" "tells" "I") ∈ lw_all := lw_g (lw_at lw_m1 57 rfl) rfl
theorem q132 : (Jvm.Cond.fieldLink "SpoonScales$Court" (15 : Nat) "SpoonScales$Court" "hunger" "[I") ∈ lw_all := lw_g (lw_at lw_m1 59 rfl) rfl
theorem q134 : (Jvm.Cond.fieldLink "SpoonScales$Court" (19 : Nat) "SpoonScales$Court" "stomachs" "[I") ∈ lw_all := lw_g (lw_at lw_m1 61 rfl) rfl
theorem q136 : (Jvm.Cond.fieldLink "SpoonScales$Court" (22 : Nat) "SpoonScales$Court" "price" "[I") ∈ lw_all := lw_g (lw_at lw_m1 63 rfl) rfl
theorem q138 : (Jvm.Cond.fieldLink "SpoonScales$Court" (25 : Nat) "SpoonScales$Court" "now" "[I") ∈ lw_all := lw_g (lw_at lw_m1 65 rfl) rfl
theorem q140 : (Jvm.Cond.fieldLink "SpoonScales$Court" (28 : Nat) "SpoonScales$Court" "stepEaters" "[I") ∈ lw_all := lw_g (lw_at lw_m1 67 rfl) rfl
theorem q141 : (Jvm.Cond.fieldLink "SpoonScales$Court" (33 : Nat) "SpoonScales$Court" "step" "[[I") ∈ lw_all := lw_g (lw_at lw_m1 68 rfl) rfl
theorem q142 : (Jvm.Cond.fieldLink "SpoonScales$Court" (36 : Nat) "SpoonScales$Court" "spoon" "[[I") ∈ lw_all := lw_g (lw_at lw_m1 69 rfl) rfl
theorem q144 : (Jvm.Cond.fieldLink "SpoonScales$Court" (39 : Nat) "SpoonScales$Court" "dent" "[[I") ∈ lw_all := lw_g (lw_at lw_m1 71 rfl) rfl
theorem q146 : (Jvm.Cond.fieldLink "SpoonScales$Court" (42 : Nat) "SpoonScales$Court" "test" "[[I") ∈ lw_all := lw_g (lw_at lw_m1 73 rfl) rfl
theorem q148 : (Jvm.Cond.fieldLink "SpoonScales$Court" (45 : Nat) "SpoonScales$Court" "tell" "[[I") ∈ lw_all := lw_g (lw_at lw_m1 75 rfl) rfl
theorem q150 : (Jvm.Cond.lays "SpoonScales$Court" "SpoonScales$Court" "eaters" "I") ∈ lw_all := lw_g (lw_at lw_m1 77 rfl) rfl
theorem q151 : (Jvm.Cond.soleField "SpoonScales$Court" "eaters") ∈ lw_all := lw_g (lw_at lw_m1 78 rfl) rfl
theorem q152 : (Jvm.Cond.lays "SpoonScales$Court" "SpoonScales$Court" "texts" "I") ∈ lw_all := lw_g (lw_at lw_m1 79 rfl) rfl
theorem q153 : (Jvm.Cond.soleField "SpoonScales$Court" "texts") ∈ lw_all := lw_g (lw_at lw_m1 80 rfl) rfl
theorem q154 : (Jvm.Cond.lays "SpoonScales$Court" "SpoonScales$Court" "text" "I") ∈ lw_all := lw_g (lw_at lw_m1 81 rfl) rfl
theorem q155 : (Jvm.Cond.soleField "SpoonScales$Court" "text") ∈ lw_all := lw_g (lw_at lw_m1 82 rfl) rfl
theorem q156 : (Jvm.Cond.lays "SpoonScales$Court" "SpoonScales$Court" "steps" "I") ∈ lw_all := lw_g (lw_at lw_m1 83 rfl) rfl
theorem q157 : (Jvm.Cond.soleField "SpoonScales$Court" "steps") ∈ lw_all := lw_g (lw_at lw_m1 84 rfl) rfl
theorem q158 : (Jvm.Cond.lays "SpoonScales$Court" "SpoonScales$Court" "tests" "I") ∈ lw_all := lw_g (lw_at lw_m1 85 rfl) rfl
theorem q159 : (Jvm.Cond.soleField "SpoonScales$Court" "tests") ∈ lw_all := lw_g (lw_at lw_m1 86 rfl) rfl
theorem q160 : (Jvm.Cond.lays "SpoonScales$Court" "SpoonScales$Court" "tells" "I") ∈ lw_all := lw_g (lw_at lw_m1 87 rfl) rfl
theorem q161 : (Jvm.Cond.soleField "SpoonScales$Court" "tells") ∈ lw_all := lw_g (lw_at lw_m1 88 rfl) rfl
theorem q162 : (Jvm.Cond.laysFinal "SpoonScales$Court" "SpoonScales$Court" "hunger" "[I") ∈ lw_all := lw_g (lw_at lw_m1 89 rfl) rfl
theorem q163 : (Jvm.Cond.soleField "SpoonScales$Court" "hunger") ∈ lw_all := lw_g (lw_at lw_m1 90 rfl) rfl
theorem q164 : (Jvm.Cond.laysFinal "SpoonScales$Court" "SpoonScales$Court" "stomachs" "[I") ∈ lw_all := lw_g (lw_at lw_m1 91 rfl) rfl
theorem q165 : (Jvm.Cond.soleField "SpoonScales$Court" "stomachs") ∈ lw_all := lw_g (lw_at lw_m1 92 rfl) rfl
theorem q166 : (Jvm.Cond.laysFinal "SpoonScales$Court" "SpoonScales$Court" "price" "[I") ∈ lw_all := lw_g (lw_at lw_m1 93 rfl) rfl
theorem q167 : (Jvm.Cond.soleField "SpoonScales$Court" "price") ∈ lw_all := lw_g (lw_at lw_m1 94 rfl) rfl
theorem q168 : (Jvm.Cond.laysFinal "SpoonScales$Court" "SpoonScales$Court" "now" "[I") ∈ lw_all := lw_g (lw_at lw_m1 95 rfl) rfl
theorem q169 : (Jvm.Cond.soleField "SpoonScales$Court" "now") ∈ lw_all := lw_g (lw_at lw_m1 96 rfl) rfl
theorem q170 : (Jvm.Cond.laysFinal "SpoonScales$Court" "SpoonScales$Court" "stepEaters" "[I") ∈ lw_all := lw_g (lw_at lw_m1 97 rfl) rfl
theorem q171 : (Jvm.Cond.soleField "SpoonScales$Court" "stepEaters") ∈ lw_all := lw_g (lw_at lw_m1 98 rfl) rfl
theorem q172 : (Jvm.Cond.laysFinal "SpoonScales$Court" "SpoonScales$Court" "step" "[[I") ∈ lw_all := lw_g (lw_at lw_m1 99 rfl) rfl
theorem q173 : (Jvm.Cond.soleField "SpoonScales$Court" "step") ∈ lw_all := lw_g (lw_at lw_m1 100 rfl) rfl
theorem q174 : (Jvm.Cond.laysFinal "SpoonScales$Court" "SpoonScales$Court" "spoon" "[[I") ∈ lw_all := lw_g (lw_at lw_m1 101 rfl) rfl
theorem q175 : (Jvm.Cond.soleField "SpoonScales$Court" "spoon") ∈ lw_all := lw_g (lw_at lw_m1 102 rfl) rfl
theorem q176 : (Jvm.Cond.laysFinal "SpoonScales$Court" "SpoonScales$Court" "dent" "[[I") ∈ lw_all := lw_g (lw_at lw_m1 103 rfl) rfl
theorem q177 : (Jvm.Cond.soleField "SpoonScales$Court" "dent") ∈ lw_all := lw_g (lw_at lw_m1 104 rfl) rfl
theorem q178 : (Jvm.Cond.laysFinal "SpoonScales$Court" "SpoonScales$Court" "test" "[[I") ∈ lw_all := lw_g (lw_at lw_m1 105 rfl) rfl
theorem q179 : (Jvm.Cond.soleField "SpoonScales$Court" "test") ∈ lw_all := lw_g (lw_at lw_m1 106 rfl) rfl
theorem q180 : (Jvm.Cond.laysFinal "SpoonScales$Court" "SpoonScales$Court" "tell" "[[I") ∈ lw_all := lw_g (lw_at lw_m1 107 rfl) rfl
theorem q181 : (Jvm.Cond.soleField "SpoonScales$Court" "tell") ∈ lw_all := lw_g (lw_at lw_m1 108 rfl) rfl
theorem q182 : (Jvm.Cond.superclass "SpoonScales$Court" "java/lang/Object") ∈ lw_all := lw_g (lw_at lw_m1 109 rfl) rfl
theorem q303 : (Jvm.Cond.instanceMethod ({ cls := "SpoonScales$Court", name := "keep", desc := "()V" } : Jvm.MethodName)) ∈ lw_all := lw_g (lw_at lw_m1 230 rfl) rfl
theorem q304 : (Jvm.Cond.selects "SpoonScales$Court" ({ cls := "SpoonScales$Court", name := "keep", desc := "()V" } : Jvm.MethodName) ({ cls := "SpoonScales$Court", name := "keep", desc := "()V" } : Jvm.MethodName)) ∈ lw_all := lw_g (lw_at lw_m1 231 rfl) rfl
theorem q305 : (Jvm.Cond.code ({ cls := "SpoonScales$Court", name := "keep", desc := "()V" } : Jvm.MethodName) prog_6_method_5_code (3 : Nat) (Option.none : Option Jvm.ClassFile.FieldType)) ∈ lw_all := lw_g (lw_at lw_m1 232 rfl) rfl
theorem q306 : (Jvm.Cond.methodLink "SpoonScales$Court" (54 : Nat) ({ cls := "SpoonScales$Court", name := "over", desc := "([I[I)V" } : Jvm.MethodName)) ∈ lw_all := lw_g (lw_at lw_m1 233 rfl) rfl
theorem q307 : (Jvm.Cond.static ({ cls := "SpoonScales$Court", name := "over", desc := "([I[I)V" } : Jvm.MethodName)) ∈ lw_all := lw_g (lw_at lw_m1 234 rfl) rfl
theorem q308 : (Jvm.Cond.code ({ cls := "SpoonScales$Court", name := "over", desc := "([I[I)V" } : Jvm.MethodName) prog_6_method_2_code (2 : Nat) (Option.none : Option Jvm.ClassFile.FieldType)) ∈ lw_all := lw_g (lw_at lw_m1 235 rfl) rfl
theorem q309 : (Jvm.Cond.methodLink "SpoonScales$Court" (48 : Nat) ({ cls := "java/lang/System", name := "arraycopy", desc := "(Ljava/lang/Object;ILjava/lang/Object;II)V" } : Jvm.MethodName)) ∈ lw_all := lw_g (lw_at lw_m1 236 rfl) rfl
theorem q442 : (Jvm.Cond.instanceMethod ({ cls := "SpoonScales$Court", name := "draw", desc := "(I)I" } : Jvm.MethodName)) ∈ lw_all := lw_g (lw_at lw_m2 129 rfl) rfl
theorem q443 : (Jvm.Cond.selects "SpoonScales$Court" ({ cls := "SpoonScales$Court", name := "draw", desc := "(I)I" } : Jvm.MethodName) ({ cls := "SpoonScales$Court", name := "draw", desc := "(I)I" } : Jvm.MethodName)) ∈ lw_all := lw_g (lw_at lw_m2 130 rfl) rfl
theorem q444 : (Jvm.Cond.code ({ cls := "SpoonScales$Court", name := "draw", desc := "(I)I" } : Jvm.MethodName) prog_6_method_7_code (3 : Nat) (Option.some Jvm.ClassFile.FieldType.int)) ∈ lw_all := lw_g (lw_at lw_m2 131 rfl) rfl
theorem q445 : (Jvm.Cond.constantLong "SpoonScales$Court" (77 : Nat) (181 : Int64)) ∈ lw_all := lw_g (lw_at lw_m2 132 rfl) rfl
theorem q446 : (Jvm.Cond.constantLong "SpoonScales$Court" (79 : Nat) (101 : Int64)) ∈ lw_all := lw_g (lw_at lw_m2 133 rfl) rfl
theorem q447 : (Jvm.Cond.constantLong "SpoonScales$Court" (81 : Nat) (30029 : Int64)) ∈ lw_all := lw_g (lw_at lw_m2 134 rfl) rfl
theorem q453 : (Jvm.Cond.instanceMethod ({ cls := "SpoonScales$Court", name := "takeBack", desc := "()V" } : Jvm.MethodName)) ∈ lw_all := lw_g (lw_at lw_m2 140 rfl) rfl
theorem q454 : (Jvm.Cond.selects "SpoonScales$Court" ({ cls := "SpoonScales$Court", name := "takeBack", desc := "()V" } : Jvm.MethodName) ({ cls := "SpoonScales$Court", name := "takeBack", desc := "()V" } : Jvm.MethodName)) ∈ lw_all := lw_g (lw_at lw_m2 141 rfl) rfl
theorem q455 : (Jvm.Cond.code ({ cls := "SpoonScales$Court", name := "takeBack", desc := "()V" } : Jvm.MethodName) prog_6_method_6_code (2 : Nat) (Option.none : Option Jvm.ClassFile.FieldType)) ∈ lw_all := lw_g (lw_at lw_m2 142 rfl) rfl
theorem q1025 : (Jvm.Cond.instanceMethod ({ cls := "SpoonScales$Court", name := "lay", desc := "(LSpoonScales$Court;)V" } : Jvm.MethodName)) ∈ lw_all := lw_g (lw_at lw_m4 232 rfl) rfl
theorem q1026 : (Jvm.Cond.selects "SpoonScales$Court" ({ cls := "SpoonScales$Court", name := "lay", desc := "(LSpoonScales$Court;)V" } : Jvm.MethodName) ({ cls := "SpoonScales$Court", name := "lay", desc := "(LSpoonScales$Court;)V" } : Jvm.MethodName)) ∈ lw_all := lw_g (lw_at lw_m4 233 rfl) rfl
theorem q1027 : (Jvm.Cond.code ({ cls := "SpoonScales$Court", name := "lay", desc := "(LSpoonScales$Court;)V" } : Jvm.MethodName) prog_6_method_4_code (2 : Nat) (Option.none : Option Jvm.ClassFile.FieldType)) ∈ lw_all := lw_g (lw_at lw_m4 234 rfl) rfl
theorem q1028 : (Jvm.Cond.methodLink "SpoonScales$Court" (73 : Nat) ({ cls := "SpoonScales$Court", name := "overAll", desc := "([[I[[I)V" } : Jvm.MethodName)) ∈ lw_all := lw_g (lw_at lw_m4 235 rfl) rfl
theorem q1029 : (Jvm.Cond.static ({ cls := "SpoonScales$Court", name := "overAll", desc := "([[I[[I)V" } : Jvm.MethodName)) ∈ lw_all := lw_g (lw_at lw_m4 236 rfl) rfl
theorem q1030 : (Jvm.Cond.code ({ cls := "SpoonScales$Court", name := "overAll", desc := "([[I[[I)V" } : Jvm.MethodName) prog_6_method_3_code (3 : Nat) (Option.none : Option Jvm.ClassFile.FieldType)) ∈ lw_all := lw_g (lw_at lw_m4 237 rfl) rfl
theorem in_X1 : ∀ w ∈ wsX10, w ∈ lw_all := lw_in wsX10 [150, 152, 154, 156, 158, 160, 162, 164, 166, 168, 170, 172, 174, 176, 178, 180] (by decide +kernel) (by decide +kernel)

/-! SpoonScales$Minus -/
set_option maxRecDepth 100000
def RX10 : String := "SpoonScales$Minus"
def TX10 : u_T := fun k => match k with
  | _ => ("SpoonScales$Minus", "a", "LSpoonScales$Sum;", true)
def tyX10 : Nat → FieldType := fun k => match k with
  | _ => .object "SpoonScales$Sum"
abbrev wsX100 : List Cond := u_ws RX10 TX10 1
theorem nmX10 : ∀ a, a < 1 → ∀ b, b < 1 → a ≠ b → (TX10 a).2.1 ≠ (TX10 b).2.1 := by decide +kernel
theorem tyX10_ok : ∀ k, k < 1 → parseFieldDescriptor (TX10 k).2.2.1 = some (tyX10 k) := by decide +kernel
abbrev cX10_of : ByteArray := prog_11_method_2_code
def yX10_of : MethodName := ⟨RX10, "of", "(LSpoonScales$View;)J"⟩
def dkwX10_of_0 : List UInt8 := [42, 180, 0, 7, 43, 185, 0, 13, 2, 0, 117, 173]
abbrev dktX10_of_0 : List UInt8 := dkwX10_of_0 ++ []
theorem dksX10_of_0 : cX10_of.data.toList.drop 0 = dktX10_of_0 := by decide +kernel
theorem dX10_of_0 : decode cX10_of 0 = .ok (.aload_n 0, 1) := dk_42 (dk_at dksX10_of_0 0 rfl rfl)
theorem dX10_of_1 : decode cX10_of 1 = .ok (.getfield 7, 3) := dk_180 0 7 (dk_at dksX10_of_0 1 rfl rfl)
theorem dX10_of_4 : decode cX10_of 4 = .ok (.aload_n 1, 1) := dk_43 (dk_at dksX10_of_0 4 rfl rfl)
theorem dX10_of_5 : decode cX10_of 5 = .ok (.invokeinterface 13 2, 5) := by decide +kernel
theorem dX10_of_10 : decode cX10_of 10 = .ok (.lneg, 1) := dk_117 (dk_at dksX10_of_0 10 rfl rfl)
theorem dX10_of_11 : decode cX10_of 11 = .ok (.lreturn, 1) := dk_173 (dk_at dksX10_of_0 11 rfl rfl)
abbrev cX10_init : ByteArray := prog_11_method_1_code
def yX10_init : MethodName := ⟨RX10, "<init>", "(LSpoonScales$Sum;)V"⟩
def dkwX10_init_0 : List UInt8 := [42, 183, 0, 1, 42, 43, 181, 0, 7, 177]
abbrev dktX10_init_0 : List UInt8 := dkwX10_init_0 ++ []
theorem dksX10_init_0 : cX10_init.data.toList.drop 0 = dktX10_init_0 := by decide +kernel
theorem dX10_init_0 : decode cX10_init 0 = .ok (.aload_n 0, 1) := dk_42 (dk_at dksX10_init_0 0 rfl rfl)
theorem dX10_init_1 : decode cX10_init 1 = .ok (.invokespecial 1, 3) := dk_183 0 1 (dk_at dksX10_init_0 1 rfl rfl)
theorem dX10_init_4 : decode cX10_init 4 = .ok (.aload_n 0, 1) := dk_42 (dk_at dksX10_init_0 4 rfl rfl)
theorem dX10_init_5 : decode cX10_init 5 = .ok (.aload_n 1, 1) := dk_43 (dk_at dksX10_init_0 5 rfl rfl)
theorem dX10_init_6 : decode cX10_init 6 = .ok (.putfield 7, 3) := dk_181 0 7 (dk_at dksX10_init_0 6 rfl rfl)
theorem dX10_init_9 : decode cX10_init 9 = .ok (.return_, 1) := dk_177 (dk_at dksX10_init_0 9 rfl rfl)
theorem q93 : (Jvm.Cond.initialized "SpoonScales$Minus") ∈ lw_all := lw_g (lw_at lw_m1 20 rfl) rfl
theorem q342 : (Jvm.Cond.castable "SpoonScales$Minus" "SpoonScales$Sum") ∈ lw_tbl := lw_at lw_m2 29 rfl
theorem q343 : (Jvm.Cond.selects "SpoonScales$Minus" ({ cls := "SpoonScales$Sum", name := "of", desc := "(LSpoonScales$View;)J" } : Jvm.MethodName) ({ cls := "SpoonScales$Minus", name := "of", desc := "(LSpoonScales$View;)J" } : Jvm.MethodName)) ∈ lw_all := lw_g (lw_at lw_m2 30 rfl) rfl
theorem q344 : (Jvm.Cond.unhidden "SpoonScales$Minus" "of" "(LSpoonScales$View;)J") ∈ lw_tbl := lw_at lw_m2 31 rfl
theorem q345 : (Jvm.Cond.instanceMethod ({ cls := "SpoonScales$Minus", name := "of", desc := "(LSpoonScales$View;)J" } : Jvm.MethodName)) ∈ lw_all := lw_g (lw_at lw_m2 32 rfl) rfl
theorem q346 : (Jvm.Cond.publicMethod ({ cls := "SpoonScales$Minus", name := "of", desc := "(LSpoonScales$View;)J" } : Jvm.MethodName)) ∈ lw_tbl := lw_at lw_m2 33 rfl
theorem q347 : (Jvm.Cond.code ({ cls := "SpoonScales$Minus", name := "of", desc := "(LSpoonScales$View;)J" } : Jvm.MethodName) prog_11_method_2_code (2 : Nat) (Option.some Jvm.ClassFile.FieldType.long)) ∈ lw_all := lw_g (lw_at lw_m2 34 rfl) rfl
theorem q348 : (Jvm.Cond.interfaceEntry "SpoonScales$Minus" (13 : Nat)) ∈ lw_tbl := lw_at lw_m2 35 rfl
theorem q349 : (Jvm.Cond.methodLink "SpoonScales$Minus" (13 : Nat) ({ cls := "SpoonScales$Sum", name := "of", desc := "(LSpoonScales$View;)J" } : Jvm.MethodName)) ∈ lw_all := lw_g (lw_at lw_m2 36 rfl) rfl
theorem q723 : (Jvm.Cond.instantiable "SpoonScales$Minus" (1 : Nat)) ∈ lw_all := lw_g (lw_at lw_m3 170 rfl) rfl
theorem q725 : (Jvm.Cond.instanceMethod ({ cls := "SpoonScales$Minus", name := "<init>", desc := "(LSpoonScales$Sum;)V" } : Jvm.MethodName)) ∈ lw_all := lw_g (lw_at lw_m3 172 rfl) rfl
theorem q726 : (Jvm.Cond.code ({ cls := "SpoonScales$Minus", name := "<init>", desc := "(LSpoonScales$Sum;)V" } : Jvm.MethodName) prog_11_method_1_code (2 : Nat) (Option.none : Option Jvm.ClassFile.FieldType)) ∈ lw_all := lw_g (lw_at lw_m3 173 rfl) rfl
theorem q727 : (Jvm.Cond.methodLink "SpoonScales$Minus" (1 : Nat) ({ cls := "java/lang/Object", name := "<init>", desc := "()V" } : Jvm.MethodName)) ∈ lw_all := lw_g (lw_at lw_m3 174 rfl) rfl
theorem q728 : (Jvm.Cond.fieldLink "SpoonScales$Minus" (7 : Nat) "SpoonScales$Minus" "a" "LSpoonScales$Sum;") ∈ lw_all := lw_g (lw_at lw_m3 175 rfl) rfl
theorem q729 : (Jvm.Cond.laysFinal "SpoonScales$Minus" "SpoonScales$Minus" "a" "LSpoonScales$Sum;") ∈ lw_all := lw_g (lw_at lw_m3 176 rfl) rfl
theorem q730 : (Jvm.Cond.soleField "SpoonScales$Minus" "a") ∈ lw_all := lw_g (lw_at lw_m3 177 rfl) rfl
theorem q731 : (Jvm.Cond.superclass "SpoonScales$Minus" "java/lang/Object") ∈ lw_all := lw_g (lw_at lw_m3 178 rfl) rfl
theorem in_X10 : ∀ w ∈ wsX100, w ∈ lw_all := lw_in wsX100 [729] (by decide +kernel) (by decide +kernel)

/-! SpoonScales$Two -/
set_option maxRecDepth 100000
def RX11 : String := "SpoonScales$Two"
def TX11 : u_T := fun k => match k with
  | 0 => ("SpoonScales$Two", "act", "I", true)
  | 1 => ("SpoonScales$Two", "a", "LSpoonScales$Sum;", true)
  | _ => ("SpoonScales$Two", "b", "LSpoonScales$Sum;", true)
def tyX11 : Nat → FieldType := fun k => match k with
  | 0 => .int
  | 1 => .object "SpoonScales$Sum"
  | _ => .object "SpoonScales$Sum"
abbrev wsX110 : List Cond := u_ws RX11 TX11 3
theorem nmX11 : ∀ a, a < 3 → ∀ b, b < 3 → a ≠ b → (TX11 a).2.1 ≠ (TX11 b).2.1 := by decide +kernel
theorem tyX11_ok : ∀ k, k < 3 → parseFieldDescriptor (TX11 k).2.2.1 = some (tyX11 k) := by decide +kernel
abbrev cX11_of : ByteArray := prog_18_method_2_code
def yX11_of : MethodName := ⟨RX11, "of", "(LSpoonScales$View;)J"⟩
def dkwX11_of_4 : List UInt8 := [182, 0, 26, 173, 22, 4, 9, 148, 154, 0, 7, 9, 167, 0, 7, 32, 22, 4, 109, 173]
abbrev dktX11_of_4 : List UInt8 := dkwX11_of_4 ++ []
def dkwX11_of_3 : List UInt8 := [42, 32, 22, 4, 97, 182, 0, 26, 173, 42, 32, 22, 4, 101, 182, 0, 26, 173, 42, 32, 22, 4, 105]
abbrev dktX11_of_3 : List UInt8 := dkwX11_of_3 ++ dktX11_of_4
def dkwX11_of_2 : List UInt8 := [170, 0, 0, 0, 56, 0, 0, 0, 42, 0, 0, 0, 45, 0, 0, 0, 47, 0, 0, 0, 29, 0, 0, 0, 56, 0, 0, 0, 38]
abbrev dktX11_of_2 : List UInt8 := dkwX11_of_2 ++ dktX11_of_3
def dkwX11_of_1 : List UInt8 := [180, 0, 7]
abbrev dktX11_of_1 : List UInt8 := dkwX11_of_1 ++ dktX11_of_2
def dkwX11_of_0 : List UInt8 := [42, 180, 0, 13, 43, 185, 0, 20, 2, 0, 65, 42, 180, 0, 17, 43, 185, 0, 20, 2, 0, 55, 4, 42]
abbrev dktX11_of_0 : List UInt8 := dkwX11_of_0 ++ dktX11_of_1
theorem dksX11_of_0 : cX11_of.data.toList.drop 0 = dktX11_of_0 := by decide +kernel
theorem dksX11_of_1 : cX11_of.data.toList.drop 24 = dktX11_of_1 := dk_seg dksX11_of_0 24 rfl rfl
theorem dksX11_of_2 : cX11_of.data.toList.drop 27 = dktX11_of_2 := dk_seg dksX11_of_1 3 rfl rfl
theorem dksX11_of_3 : cX11_of.data.toList.drop 56 = dktX11_of_3 := dk_seg dksX11_of_2 29 rfl rfl
theorem dksX11_of_4 : cX11_of.data.toList.drop 79 = dktX11_of_4 := dk_seg dksX11_of_3 23 rfl rfl
theorem dX11_of_0 : decode cX11_of 0 = .ok (.aload_n 0, 1) := dk_42 (dk_at dksX11_of_0 0 rfl rfl)
theorem dX11_of_1 : decode cX11_of 1 = .ok (.getfield 13, 3) := dk_180 0 13 (dk_at dksX11_of_0 1 rfl rfl)
theorem dX11_of_4 : decode cX11_of 4 = .ok (.aload_n 1, 1) := dk_43 (dk_at dksX11_of_0 4 rfl rfl)
theorem dX11_of_5 : decode cX11_of 5 = .ok (.invokeinterface 20 2, 5) := by decide +kernel
theorem dX11_of_10 : decode cX11_of 10 = .ok (.lstore_n 2, 1) := dk_65 (dk_at dksX11_of_0 10 rfl rfl)
theorem dX11_of_11 : decode cX11_of 11 = .ok (.aload_n 0, 1) := dk_42 (dk_at dksX11_of_0 11 rfl rfl)
theorem dX11_of_12 : decode cX11_of 12 = .ok (.getfield 17, 3) := dk_180 0 17 (dk_at dksX11_of_0 12 rfl rfl)
theorem dX11_of_15 : decode cX11_of 15 = .ok (.aload_n 1, 1) := dk_43 (dk_at dksX11_of_0 15 rfl rfl)
theorem dX11_of_16 : decode cX11_of 16 = .ok (.invokeinterface 20 2, 5) := by decide +kernel
theorem dX11_of_21 : decode cX11_of 21 = .ok (.lstore 4, 2) := dk_55 4 (dk_at dksX11_of_0 21 rfl rfl)
theorem dX11_of_23 : decode cX11_of 23 = .ok (.aload_n 0, 1) := dk_42 (dk_at dksX11_of_0 23 rfl rfl)
theorem dX11_of_24 : decode cX11_of 24 = .ok (.getfield 7, 3) := dk_180 0 7 (dk_at dksX11_of_1 0 rfl rfl)
theorem dX11_of_27 : decode cX11_of 27 = .ok (.tableswitch 56 42 45 #[47, 29, 56, 38], 29) := by decide +kernel
theorem dX11_of_56 : decode cX11_of 56 = .ok (.aload_n 0, 1) := dk_42 (dk_at dksX11_of_3 0 rfl rfl)
theorem dX11_of_57 : decode cX11_of 57 = .ok (.lload_n 2, 1) := dk_32 (dk_at dksX11_of_3 1 rfl rfl)
theorem dX11_of_58 : decode cX11_of 58 = .ok (.lload 4, 2) := dk_22 4 (dk_at dksX11_of_3 2 rfl rfl)
theorem dX11_of_60 : decode cX11_of 60 = .ok (.ladd, 1) := dk_97 (dk_at dksX11_of_3 4 rfl rfl)
theorem dX11_of_61 : decode cX11_of 61 = .ok (.invokevirtual 26, 3) := dk_182 0 26 (dk_at dksX11_of_3 5 rfl rfl)
theorem dX11_of_64 : decode cX11_of 64 = .ok (.lreturn, 1) := dk_173 (dk_at dksX11_of_3 8 rfl rfl)
theorem dX11_of_65 : decode cX11_of 65 = .ok (.aload_n 0, 1) := dk_42 (dk_at dksX11_of_3 9 rfl rfl)
theorem dX11_of_66 : decode cX11_of 66 = .ok (.lload_n 2, 1) := dk_32 (dk_at dksX11_of_3 10 rfl rfl)
theorem dX11_of_67 : decode cX11_of 67 = .ok (.lload 4, 2) := dk_22 4 (dk_at dksX11_of_3 11 rfl rfl)
theorem dX11_of_69 : decode cX11_of 69 = .ok (.lsub, 1) := dk_101 (dk_at dksX11_of_3 13 rfl rfl)
theorem dX11_of_70 : decode cX11_of 70 = .ok (.invokevirtual 26, 3) := dk_182 0 26 (dk_at dksX11_of_3 14 rfl rfl)
theorem dX11_of_73 : decode cX11_of 73 = .ok (.lreturn, 1) := dk_173 (dk_at dksX11_of_3 17 rfl rfl)
theorem dX11_of_74 : decode cX11_of 74 = .ok (.aload_n 0, 1) := dk_42 (dk_at dksX11_of_3 18 rfl rfl)
theorem dX11_of_75 : decode cX11_of 75 = .ok (.lload_n 2, 1) := dk_32 (dk_at dksX11_of_3 19 rfl rfl)
theorem dX11_of_76 : decode cX11_of 76 = .ok (.lload 4, 2) := dk_22 4 (dk_at dksX11_of_3 20 rfl rfl)
theorem dX11_of_78 : decode cX11_of 78 = .ok (.lmul, 1) := dk_105 (dk_at dksX11_of_3 22 rfl rfl)
theorem dX11_of_79 : decode cX11_of 79 = .ok (.invokevirtual 26, 3) := dk_182 0 26 (dk_at dksX11_of_4 0 rfl rfl)
theorem dX11_of_82 : decode cX11_of 82 = .ok (.lreturn, 1) := dk_173 (dk_at dksX11_of_4 3 rfl rfl)
theorem dX11_of_83 : decode cX11_of 83 = .ok (.lload 4, 2) := dk_22 4 (dk_at dksX11_of_4 4 rfl rfl)
theorem dX11_of_85 : decode cX11_of 85 = .ok (.lconst 0, 1) := dk_9 (dk_at dksX11_of_4 6 rfl rfl)
theorem dX11_of_86 : decode cX11_of 86 = .ok (.lcmp, 1) := dk_148 (dk_at dksX11_of_4 7 rfl rfl)
theorem dX11_of_87 : decode cX11_of 87 = .ok (.ifCond .ne 7, 3) := dk_154 0 7 (dk_at dksX11_of_4 8 rfl rfl)
theorem dX11_of_90 : decode cX11_of 90 = .ok (.lconst 0, 1) := dk_9 (dk_at dksX11_of_4 11 rfl rfl)
theorem dX11_of_91 : decode cX11_of 91 = .ok (.goto 7, 3) := dk_167 0 7 (dk_at dksX11_of_4 12 rfl rfl)
theorem dX11_of_94 : decode cX11_of 94 = .ok (.lload_n 2, 1) := dk_32 (dk_at dksX11_of_4 15 rfl rfl)
theorem dX11_of_95 : decode cX11_of 95 = .ok (.lload 4, 2) := dk_22 4 (dk_at dksX11_of_4 16 rfl rfl)
theorem dX11_of_97 : decode cX11_of 97 = .ok (.ldiv, 1) := dk_109 (dk_at dksX11_of_4 18 rfl rfl)
theorem dX11_of_98 : decode cX11_of 98 = .ok (.lreturn, 1) := dk_173 (dk_at dksX11_of_4 19 rfl rfl)
abbrev cX11_init : ByteArray := prog_18_method_1_code
def yX11_init : MethodName := ⟨RX11, "<init>", "(ILSpoonScales$Sum;LSpoonScales$Sum;)V"⟩
def dkwX11_init_0 : List UInt8 := [42, 183, 0, 1, 42, 27, 181, 0, 7, 42, 44, 181, 0, 13, 42, 45, 181, 0, 17, 177]
abbrev dktX11_init_0 : List UInt8 := dkwX11_init_0 ++ []
theorem dksX11_init_0 : cX11_init.data.toList.drop 0 = dktX11_init_0 := by decide +kernel
theorem dX11_init_0 : decode cX11_init 0 = .ok (.aload_n 0, 1) := dk_42 (dk_at dksX11_init_0 0 rfl rfl)
theorem dX11_init_1 : decode cX11_init 1 = .ok (.invokespecial 1, 3) := dk_183 0 1 (dk_at dksX11_init_0 1 rfl rfl)
theorem dX11_init_4 : decode cX11_init 4 = .ok (.aload_n 0, 1) := dk_42 (dk_at dksX11_init_0 4 rfl rfl)
theorem dX11_init_5 : decode cX11_init 5 = .ok (.iload_n 1, 1) := dk_27 (dk_at dksX11_init_0 5 rfl rfl)
theorem dX11_init_6 : decode cX11_init 6 = .ok (.putfield 7, 3) := dk_181 0 7 (dk_at dksX11_init_0 6 rfl rfl)
theorem dX11_init_9 : decode cX11_init 9 = .ok (.aload_n 0, 1) := dk_42 (dk_at dksX11_init_0 9 rfl rfl)
theorem dX11_init_10 : decode cX11_init 10 = .ok (.aload_n 2, 1) := dk_44 (dk_at dksX11_init_0 10 rfl rfl)
theorem dX11_init_11 : decode cX11_init 11 = .ok (.putfield 13, 3) := dk_181 0 13 (dk_at dksX11_init_0 11 rfl rfl)
theorem dX11_init_14 : decode cX11_init 14 = .ok (.aload_n 0, 1) := dk_42 (dk_at dksX11_init_0 14 rfl rfl)
theorem dX11_init_15 : decode cX11_init 15 = .ok (.aload_n 3, 1) := dk_45 (dk_at dksX11_init_0 15 rfl rfl)
theorem dX11_init_16 : decode cX11_init 16 = .ok (.putfield 17, 3) := dk_181 0 17 (dk_at dksX11_init_0 16 rfl rfl)
theorem dX11_init_19 : decode cX11_init 19 = .ok (.return_, 1) := dk_177 (dk_at dksX11_init_0 19 rfl rfl)
theorem q94 : (Jvm.Cond.initialized "SpoonScales$Two") ∈ lw_all := lw_g (lw_at lw_m1 21 rfl) rfl
theorem q350 : (Jvm.Cond.castable "SpoonScales$Two" "SpoonScales$Sum") ∈ lw_tbl := lw_at lw_m2 37 rfl
theorem q351 : (Jvm.Cond.selects "SpoonScales$Two" ({ cls := "SpoonScales$Sum", name := "of", desc := "(LSpoonScales$View;)J" } : Jvm.MethodName) ({ cls := "SpoonScales$Two", name := "of", desc := "(LSpoonScales$View;)J" } : Jvm.MethodName)) ∈ lw_all := lw_g (lw_at lw_m2 38 rfl) rfl
theorem q352 : (Jvm.Cond.unhidden "SpoonScales$Two" "of" "(LSpoonScales$View;)J") ∈ lw_tbl := lw_at lw_m2 39 rfl
theorem q353 : (Jvm.Cond.instanceMethod ({ cls := "SpoonScales$Two", name := "of", desc := "(LSpoonScales$View;)J" } : Jvm.MethodName)) ∈ lw_all := lw_g (lw_at lw_m2 40 rfl) rfl
theorem q354 : (Jvm.Cond.publicMethod ({ cls := "SpoonScales$Two", name := "of", desc := "(LSpoonScales$View;)J" } : Jvm.MethodName)) ∈ lw_tbl := lw_at lw_m2 41 rfl
theorem q355 : (Jvm.Cond.code ({ cls := "SpoonScales$Two", name := "of", desc := "(LSpoonScales$View;)J" } : Jvm.MethodName) prog_18_method_2_code (6 : Nat) (Option.some Jvm.ClassFile.FieldType.long)) ∈ lw_all := lw_g (lw_at lw_m2 42 rfl) rfl
theorem q356 : (Jvm.Cond.interfaceEntry "SpoonScales$Two" (20 : Nat)) ∈ lw_tbl := lw_at lw_m2 43 rfl
theorem q357 : (Jvm.Cond.methodLink "SpoonScales$Two" (20 : Nat) ({ cls := "SpoonScales$Sum", name := "of", desc := "(LSpoonScales$View;)J" } : Jvm.MethodName)) ∈ lw_all := lw_g (lw_at lw_m2 44 rfl) rfl
theorem q370 : (Jvm.Cond.superclass "SpoonScales$Two" "java/lang/Object") ∈ lw_all := lw_g (lw_at lw_m2 57 rfl) rfl
theorem q372 : (Jvm.Cond.unhidden "SpoonScales$Two" "bound" "(J)J") ∈ lw_tbl := lw_at lw_m2 59 rfl
theorem q733 : (Jvm.Cond.instantiable "SpoonScales$Two" (3 : Nat)) ∈ lw_all := lw_g (lw_at lw_m3 180 rfl) rfl
theorem q735 : (Jvm.Cond.instanceMethod ({ cls := "SpoonScales$Two", name := "<init>", desc := "(ILSpoonScales$Sum;LSpoonScales$Sum;)V" } : Jvm.MethodName)) ∈ lw_all := lw_g (lw_at lw_m3 182 rfl) rfl
theorem q736 : (Jvm.Cond.code ({ cls := "SpoonScales$Two", name := "<init>", desc := "(ILSpoonScales$Sum;LSpoonScales$Sum;)V" } : Jvm.MethodName) prog_18_method_1_code (4 : Nat) (Option.none : Option Jvm.ClassFile.FieldType)) ∈ lw_all := lw_g (lw_at lw_m3 183 rfl) rfl
theorem q737 : (Jvm.Cond.methodLink "SpoonScales$Two" (1 : Nat) ({ cls := "java/lang/Object", name := "<init>", desc := "()V" } : Jvm.MethodName)) ∈ lw_all := lw_g (lw_at lw_m3 184 rfl) rfl
theorem q738 : (Jvm.Cond.fieldLink "SpoonScales$Two" (7 : Nat) "SpoonScales$Two" "act" "I") ∈ lw_all := lw_g (lw_at lw_m3 185 rfl) rfl
theorem q739 : (Jvm.Cond.fieldLink "SpoonScales$Two" (13 : Nat) "SpoonScales$Two" "a" "LSpoonScales$Sum;") ∈ lw_all := lw_g (lw_at lw_m3 186 rfl) rfl
theorem q740 : (Jvm.Cond.fieldLink "SpoonScales$Two" (17 : Nat) "SpoonScales$Two" "b" "LSpoonScales$Sum;") ∈ lw_all := lw_g (lw_at lw_m3 187 rfl) rfl
theorem q741 : (Jvm.Cond.laysFinal "SpoonScales$Two" "SpoonScales$Two" "act" "I") ∈ lw_all := lw_g (lw_at lw_m3 188 rfl) rfl
theorem q742 : (Jvm.Cond.soleField "SpoonScales$Two" "act") ∈ lw_all := lw_g (lw_at lw_m3 189 rfl) rfl
theorem q743 : (Jvm.Cond.laysFinal "SpoonScales$Two" "SpoonScales$Two" "a" "LSpoonScales$Sum;") ∈ lw_all := lw_g (lw_at lw_m3 190 rfl) rfl
theorem q744 : (Jvm.Cond.soleField "SpoonScales$Two" "a") ∈ lw_all := lw_g (lw_at lw_m3 191 rfl) rfl
theorem q745 : (Jvm.Cond.laysFinal "SpoonScales$Two" "SpoonScales$Two" "b" "LSpoonScales$Sum;") ∈ lw_all := lw_g (lw_at lw_m3 192 rfl) rfl
theorem q746 : (Jvm.Cond.soleField "SpoonScales$Two" "b") ∈ lw_all := lw_g (lw_at lw_m3 193 rfl) rfl
theorem in_X11 : ∀ w ∈ wsX110, w ∈ lw_all := lw_in wsX110 [741, 743, 745] (by decide +kernel) (by decide +kernel)

/-! SpoonScales$Not -/
set_option maxRecDepth 100000
def RX12 : String := "SpoonScales$Not"
def TX12 : u_T := fun k => match k with
  | _ => ("SpoonScales$Not", "a", "LSpoonScales$Ask;", true)
def tyX12 : Nat → FieldType := fun k => match k with
  | _ => .object "SpoonScales$Ask"
abbrev wsX120 : List Cond := u_ws RX12 TX12 1
theorem nmX12 : ∀ a, a < 1 → ∀ b, b < 1 → a ≠ b → (TX12 a).2.1 ≠ (TX12 b).2.1 := by decide +kernel
theorem tyX12_ok : ∀ k, k < 1 → parseFieldDescriptor (TX12 k).2.2.1 = some (tyX12 k) := by decide +kernel
abbrev cX12_is : ByteArray := prog_13_method_2_code
def yX12_is : MethodName := ⟨RX12, "is", "(LSpoonScales$View;)Z"⟩
def dkwX12_is_0 : List UInt8 := [42, 180, 0, 7, 43, 185, 0, 13, 2, 0, 154, 0, 7, 4, 167, 0, 4, 3, 172]
abbrev dktX12_is_0 : List UInt8 := dkwX12_is_0 ++ []
theorem dksX12_is_0 : cX12_is.data.toList.drop 0 = dktX12_is_0 := by decide +kernel
theorem dX12_is_0 : decode cX12_is 0 = .ok (.aload_n 0, 1) := dk_42 (dk_at dksX12_is_0 0 rfl rfl)
theorem dX12_is_1 : decode cX12_is 1 = .ok (.getfield 7, 3) := dk_180 0 7 (dk_at dksX12_is_0 1 rfl rfl)
theorem dX12_is_4 : decode cX12_is 4 = .ok (.aload_n 1, 1) := dk_43 (dk_at dksX12_is_0 4 rfl rfl)
theorem dX12_is_5 : decode cX12_is 5 = .ok (.invokeinterface 13 2, 5) := by decide +kernel
theorem dX12_is_10 : decode cX12_is 10 = .ok (.ifCond .ne 7, 3) := dk_154 0 7 (dk_at dksX12_is_0 10 rfl rfl)
theorem dX12_is_13 : decode cX12_is 13 = .ok (.iconst 1, 1) := dk_4 (dk_at dksX12_is_0 13 rfl rfl)
theorem dX12_is_14 : decode cX12_is 14 = .ok (.goto 4, 3) := dk_167 0 4 (dk_at dksX12_is_0 14 rfl rfl)
theorem dX12_is_17 : decode cX12_is 17 = .ok (.iconst 0, 1) := dk_3 (dk_at dksX12_is_0 17 rfl rfl)
theorem dX12_is_18 : decode cX12_is 18 = .ok (.ireturn, 1) := dk_172 (dk_at dksX12_is_0 18 rfl rfl)
abbrev cX12_init : ByteArray := prog_13_method_1_code
def yX12_init : MethodName := ⟨RX12, "<init>", "(LSpoonScales$Ask;)V"⟩
def dkwX12_init_0 : List UInt8 := [42, 183, 0, 1, 42, 43, 181, 0, 7, 177]
abbrev dktX12_init_0 : List UInt8 := dkwX12_init_0 ++ []
theorem dksX12_init_0 : cX12_init.data.toList.drop 0 = dktX12_init_0 := by decide +kernel
theorem dX12_init_0 : decode cX12_init 0 = .ok (.aload_n 0, 1) := dk_42 (dk_at dksX12_init_0 0 rfl rfl)
theorem dX12_init_1 : decode cX12_init 1 = .ok (.invokespecial 1, 3) := dk_183 0 1 (dk_at dksX12_init_0 1 rfl rfl)
theorem dX12_init_4 : decode cX12_init 4 = .ok (.aload_n 0, 1) := dk_42 (dk_at dksX12_init_0 4 rfl rfl)
theorem dX12_init_5 : decode cX12_init 5 = .ok (.aload_n 1, 1) := dk_43 (dk_at dksX12_init_0 5 rfl rfl)
theorem dX12_init_6 : decode cX12_init 6 = .ok (.putfield 7, 3) := dk_181 0 7 (dk_at dksX12_init_0 6 rfl rfl)
theorem dX12_init_9 : decode cX12_init 9 = .ok (.return_, 1) := dk_177 (dk_at dksX12_init_0 9 rfl rfl)
theorem q95 : (Jvm.Cond.initialized "SpoonScales$Not") ∈ lw_all := lw_g (lw_at lw_m1 22 rfl) rfl
theorem q429 : (Jvm.Cond.castable "SpoonScales$Not" "SpoonScales$Ask") ∈ lw_tbl := lw_at lw_m2 116 rfl
theorem q430 : (Jvm.Cond.selects "SpoonScales$Not" ({ cls := "SpoonScales$Ask", name := "is", desc := "(LSpoonScales$View;)Z" } : Jvm.MethodName) ({ cls := "SpoonScales$Not", name := "is", desc := "(LSpoonScales$View;)Z" } : Jvm.MethodName)) ∈ lw_all := lw_g (lw_at lw_m2 117 rfl) rfl
theorem q431 : (Jvm.Cond.unhidden "SpoonScales$Not" "is" "(LSpoonScales$View;)Z") ∈ lw_tbl := lw_at lw_m2 118 rfl
theorem q432 : (Jvm.Cond.instanceMethod ({ cls := "SpoonScales$Not", name := "is", desc := "(LSpoonScales$View;)Z" } : Jvm.MethodName)) ∈ lw_all := lw_g (lw_at lw_m2 119 rfl) rfl
theorem q433 : (Jvm.Cond.publicMethod ({ cls := "SpoonScales$Not", name := "is", desc := "(LSpoonScales$View;)Z" } : Jvm.MethodName)) ∈ lw_tbl := lw_at lw_m2 120 rfl
theorem q434 : (Jvm.Cond.code ({ cls := "SpoonScales$Not", name := "is", desc := "(LSpoonScales$View;)Z" } : Jvm.MethodName) prog_13_method_2_code (2 : Nat) (Option.some Jvm.ClassFile.FieldType.boolean)) ∈ lw_all := lw_g (lw_at lw_m2 121 rfl) rfl
theorem q435 : (Jvm.Cond.interfaceEntry "SpoonScales$Not" (13 : Nat)) ∈ lw_tbl := lw_at lw_m2 122 rfl
theorem q436 : (Jvm.Cond.methodLink "SpoonScales$Not" (13 : Nat) ({ cls := "SpoonScales$Ask", name := "is", desc := "(LSpoonScales$View;)Z" } : Jvm.MethodName)) ∈ lw_all := lw_g (lw_at lw_m2 123 rfl) rfl
theorem q760 : (Jvm.Cond.instantiable "SpoonScales$Not" (1 : Nat)) ∈ lw_all := lw_g (lw_at lw_m3 207 rfl) rfl
theorem q762 : (Jvm.Cond.instanceMethod ({ cls := "SpoonScales$Not", name := "<init>", desc := "(LSpoonScales$Ask;)V" } : Jvm.MethodName)) ∈ lw_all := lw_g (lw_at lw_m3 209 rfl) rfl
theorem q763 : (Jvm.Cond.code ({ cls := "SpoonScales$Not", name := "<init>", desc := "(LSpoonScales$Ask;)V" } : Jvm.MethodName) prog_13_method_1_code (2 : Nat) (Option.none : Option Jvm.ClassFile.FieldType)) ∈ lw_all := lw_g (lw_at lw_m3 210 rfl) rfl
theorem q764 : (Jvm.Cond.methodLink "SpoonScales$Not" (1 : Nat) ({ cls := "java/lang/Object", name := "<init>", desc := "()V" } : Jvm.MethodName)) ∈ lw_all := lw_g (lw_at lw_m3 211 rfl) rfl
theorem q765 : (Jvm.Cond.fieldLink "SpoonScales$Not" (7 : Nat) "SpoonScales$Not" "a" "LSpoonScales$Ask;") ∈ lw_all := lw_g (lw_at lw_m3 212 rfl) rfl
theorem q766 : (Jvm.Cond.laysFinal "SpoonScales$Not" "SpoonScales$Not" "a" "LSpoonScales$Ask;") ∈ lw_all := lw_g (lw_at lw_m3 213 rfl) rfl
theorem q767 : (Jvm.Cond.soleField "SpoonScales$Not" "a") ∈ lw_all := lw_g (lw_at lw_m3 214 rfl) rfl
theorem q768 : (Jvm.Cond.superclass "SpoonScales$Not" "java/lang/Object") ∈ lw_all := lw_g (lw_at lw_m3 215 rfl) rfl
theorem in_X12 : ∀ w ∈ wsX120, w ∈ lw_all := lw_in wsX120 [766] (by decide +kernel) (by decide +kernel)

/-! SpoonScales$Compare -/
set_option maxRecDepth 100000
def RX13 : String := "SpoonScales$Compare"
def TX13 : u_T := fun k => match k with
  | 0 => ("SpoonScales$Compare", "how", "I", true)
  | 1 => ("SpoonScales$Compare", "a", "LSpoonScales$Sum;", true)
  | _ => ("SpoonScales$Compare", "b", "LSpoonScales$Sum;", true)
def tyX13 : Nat → FieldType := fun k => match k with
  | 0 => .int
  | 1 => .object "SpoonScales$Sum"
  | _ => .object "SpoonScales$Sum"
abbrev wsX130 : List Cond := u_ws RX13 TX13 3
theorem nmX13 : ∀ a, a < 3 → ∀ b, b < 3 → a ≠ b → (TX13 a).2.1 ≠ (TX13 b).2.1 := by decide +kernel
theorem tyX13_ok : ∀ k, k < 3 → parseFieldDescriptor (TX13 k).2.2.1 = some (tyX13 k) := by decide +kernel
abbrev cX13_is : ByteArray := prog_4_method_2_code
def yX13_is : MethodName := ⟨RX13, "is", "(LSpoonScales$View;)Z"⟩
def dkwX13_is_6 : List UInt8 := [153, 0, 7, 4, 167, 0, 4, 3, 172]
abbrev dktX13_is_6 : List UInt8 := dkwX13_is_6 ++ []
def dkwX13_is_5 : List UInt8 := [167, 0, 4, 3, 172, 32, 22, 4, 148, 154, 0, 7, 4, 167, 0, 4, 3, 172, 32, 22, 4, 148]
abbrev dktX13_is_5 : List UInt8 := dkwX13_is_5 ++ dktX13_is_6
def dkwX13_is_4 : List UInt8 := [3, 172, 32, 22, 4, 148, 158, 0, 7, 4, 167, 0, 4, 3, 172, 32, 22, 4, 148, 155, 0, 7, 4]
abbrev dktX13_is_4 : List UInt8 := dkwX13_is_4 ++ dktX13_is_5
def dkwX13_is_3 : List UInt8 := [32, 22, 4, 148, 156, 0, 7, 4, 167, 0, 4, 3, 172, 32, 22, 4, 148, 157, 0, 7, 4, 167, 0, 4]
abbrev dktX13_is_3 : List UInt8 := dkwX13_is_3 ++ dktX13_is_4
def dkwX13_is_2 : List UInt8 := [171, 0, 0, 0, 114, 0, 0, 0, 5, 0, 0, 0, 60, 0, 0, 0, 49, 0, 0, 0, 61, 0, 0, 0, 101, 0, 0, 0, 62, 0, 0, 0, 75, 0, 0, 1, 48, 0, 0, 0, 62, 0, 0, 1, 49, 0, 0, 0, 88]
abbrev dktX13_is_2 : List UInt8 := dkwX13_is_2 ++ dktX13_is_3
def dkwX13_is_1 : List UInt8 := [180, 0, 7]
abbrev dktX13_is_1 : List UInt8 := dkwX13_is_1 ++ dktX13_is_2
def dkwX13_is_0 : List UInt8 := [42, 180, 0, 13, 43, 185, 0, 20, 2, 0, 65, 42, 180, 0, 17, 43, 185, 0, 20, 2, 0, 55, 4, 42]
abbrev dktX13_is_0 : List UInt8 := dkwX13_is_0 ++ dktX13_is_1
theorem dksX13_is_0 : cX13_is.data.toList.drop 0 = dktX13_is_0 := by decide +kernel
theorem dksX13_is_1 : cX13_is.data.toList.drop 24 = dktX13_is_1 := dk_seg dksX13_is_0 24 rfl rfl
theorem dksX13_is_2 : cX13_is.data.toList.drop 27 = dktX13_is_2 := dk_seg dksX13_is_1 3 rfl rfl
theorem dksX13_is_3 : cX13_is.data.toList.drop 76 = dktX13_is_3 := dk_seg dksX13_is_2 49 rfl rfl
theorem dksX13_is_4 : cX13_is.data.toList.drop 100 = dktX13_is_4 := dk_seg dksX13_is_3 24 rfl rfl
theorem dksX13_is_5 : cX13_is.data.toList.drop 123 = dktX13_is_5 := dk_seg dksX13_is_4 23 rfl rfl
theorem dksX13_is_6 : cX13_is.data.toList.drop 145 = dktX13_is_6 := dk_seg dksX13_is_5 22 rfl rfl
theorem dX13_is_0 : decode cX13_is 0 = .ok (.aload_n 0, 1) := dk_42 (dk_at dksX13_is_0 0 rfl rfl)
theorem dX13_is_1 : decode cX13_is 1 = .ok (.getfield 13, 3) := dk_180 0 13 (dk_at dksX13_is_0 1 rfl rfl)
theorem dX13_is_4 : decode cX13_is 4 = .ok (.aload_n 1, 1) := dk_43 (dk_at dksX13_is_0 4 rfl rfl)
theorem dX13_is_5 : decode cX13_is 5 = .ok (.invokeinterface 20 2, 5) := by decide +kernel
theorem dX13_is_10 : decode cX13_is 10 = .ok (.lstore_n 2, 1) := dk_65 (dk_at dksX13_is_0 10 rfl rfl)
theorem dX13_is_11 : decode cX13_is 11 = .ok (.aload_n 0, 1) := dk_42 (dk_at dksX13_is_0 11 rfl rfl)
theorem dX13_is_12 : decode cX13_is 12 = .ok (.getfield 17, 3) := dk_180 0 17 (dk_at dksX13_is_0 12 rfl rfl)
theorem dX13_is_15 : decode cX13_is 15 = .ok (.aload_n 1, 1) := dk_43 (dk_at dksX13_is_0 15 rfl rfl)
theorem dX13_is_16 : decode cX13_is 16 = .ok (.invokeinterface 20 2, 5) := by decide +kernel
theorem dX13_is_21 : decode cX13_is 21 = .ok (.lstore 4, 2) := dk_55 4 (dk_at dksX13_is_0 21 rfl rfl)
theorem dX13_is_23 : decode cX13_is 23 = .ok (.aload_n 0, 1) := dk_42 (dk_at dksX13_is_0 23 rfl rfl)
theorem dX13_is_24 : decode cX13_is 24 = .ok (.getfield 7, 3) := dk_180 0 7 (dk_at dksX13_is_1 0 rfl rfl)
theorem dX13_is_27 : decode cX13_is 27 = .ok (.lookupswitch 114 #[(60, 49), (61, 101), (62, 75), (304, 62), (305, 88)], 49) := by decide +kernel
theorem dX13_is_76 : decode cX13_is 76 = .ok (.lload_n 2, 1) := dk_32 (dk_at dksX13_is_3 0 rfl rfl)
theorem dX13_is_77 : decode cX13_is 77 = .ok (.lload 4, 2) := dk_22 4 (dk_at dksX13_is_3 1 rfl rfl)
theorem dX13_is_79 : decode cX13_is 79 = .ok (.lcmp, 1) := dk_148 (dk_at dksX13_is_3 3 rfl rfl)
theorem dX13_is_80 : decode cX13_is 80 = .ok (.ifCond .ge 7, 3) := dk_156 0 7 (dk_at dksX13_is_3 4 rfl rfl)
theorem dX13_is_83 : decode cX13_is 83 = .ok (.iconst 1, 1) := dk_4 (dk_at dksX13_is_3 7 rfl rfl)
theorem dX13_is_84 : decode cX13_is 84 = .ok (.goto 4, 3) := dk_167 0 4 (dk_at dksX13_is_3 8 rfl rfl)
theorem dX13_is_87 : decode cX13_is 87 = .ok (.iconst 0, 1) := dk_3 (dk_at dksX13_is_3 11 rfl rfl)
theorem dX13_is_88 : decode cX13_is 88 = .ok (.ireturn, 1) := dk_172 (dk_at dksX13_is_3 12 rfl rfl)
theorem dX13_is_89 : decode cX13_is 89 = .ok (.lload_n 2, 1) := dk_32 (dk_at dksX13_is_3 13 rfl rfl)
theorem dX13_is_90 : decode cX13_is 90 = .ok (.lload 4, 2) := dk_22 4 (dk_at dksX13_is_3 14 rfl rfl)
theorem dX13_is_92 : decode cX13_is 92 = .ok (.lcmp, 1) := dk_148 (dk_at dksX13_is_3 16 rfl rfl)
theorem dX13_is_93 : decode cX13_is 93 = .ok (.ifCond .gt 7, 3) := dk_157 0 7 (dk_at dksX13_is_3 17 rfl rfl)
theorem dX13_is_96 : decode cX13_is 96 = .ok (.iconst 1, 1) := dk_4 (dk_at dksX13_is_3 20 rfl rfl)
theorem dX13_is_97 : decode cX13_is 97 = .ok (.goto 4, 3) := dk_167 0 4 (dk_at dksX13_is_3 21 rfl rfl)
theorem dX13_is_100 : decode cX13_is 100 = .ok (.iconst 0, 1) := dk_3 (dk_at dksX13_is_4 0 rfl rfl)
theorem dX13_is_101 : decode cX13_is 101 = .ok (.ireturn, 1) := dk_172 (dk_at dksX13_is_4 1 rfl rfl)
theorem dX13_is_102 : decode cX13_is 102 = .ok (.lload_n 2, 1) := dk_32 (dk_at dksX13_is_4 2 rfl rfl)
theorem dX13_is_103 : decode cX13_is 103 = .ok (.lload 4, 2) := dk_22 4 (dk_at dksX13_is_4 3 rfl rfl)
theorem dX13_is_105 : decode cX13_is 105 = .ok (.lcmp, 1) := dk_148 (dk_at dksX13_is_4 5 rfl rfl)
theorem dX13_is_106 : decode cX13_is 106 = .ok (.ifCond .le 7, 3) := dk_158 0 7 (dk_at dksX13_is_4 6 rfl rfl)
theorem dX13_is_109 : decode cX13_is 109 = .ok (.iconst 1, 1) := dk_4 (dk_at dksX13_is_4 9 rfl rfl)
theorem dX13_is_110 : decode cX13_is 110 = .ok (.goto 4, 3) := dk_167 0 4 (dk_at dksX13_is_4 10 rfl rfl)
theorem dX13_is_113 : decode cX13_is 113 = .ok (.iconst 0, 1) := dk_3 (dk_at dksX13_is_4 13 rfl rfl)
theorem dX13_is_114 : decode cX13_is 114 = .ok (.ireturn, 1) := dk_172 (dk_at dksX13_is_4 14 rfl rfl)
theorem dX13_is_115 : decode cX13_is 115 = .ok (.lload_n 2, 1) := dk_32 (dk_at dksX13_is_4 15 rfl rfl)
theorem dX13_is_116 : decode cX13_is 116 = .ok (.lload 4, 2) := dk_22 4 (dk_at dksX13_is_4 16 rfl rfl)
theorem dX13_is_118 : decode cX13_is 118 = .ok (.lcmp, 1) := dk_148 (dk_at dksX13_is_4 18 rfl rfl)
theorem dX13_is_119 : decode cX13_is 119 = .ok (.ifCond .lt 7, 3) := dk_155 0 7 (dk_at dksX13_is_4 19 rfl rfl)
theorem dX13_is_122 : decode cX13_is 122 = .ok (.iconst 1, 1) := dk_4 (dk_at dksX13_is_4 22 rfl rfl)
theorem dX13_is_123 : decode cX13_is 123 = .ok (.goto 4, 3) := dk_167 0 4 (dk_at dksX13_is_5 0 rfl rfl)
theorem dX13_is_126 : decode cX13_is 126 = .ok (.iconst 0, 1) := dk_3 (dk_at dksX13_is_5 3 rfl rfl)
theorem dX13_is_127 : decode cX13_is 127 = .ok (.ireturn, 1) := dk_172 (dk_at dksX13_is_5 4 rfl rfl)
theorem dX13_is_128 : decode cX13_is 128 = .ok (.lload_n 2, 1) := dk_32 (dk_at dksX13_is_5 5 rfl rfl)
theorem dX13_is_129 : decode cX13_is 129 = .ok (.lload 4, 2) := dk_22 4 (dk_at dksX13_is_5 6 rfl rfl)
theorem dX13_is_131 : decode cX13_is 131 = .ok (.lcmp, 1) := dk_148 (dk_at dksX13_is_5 8 rfl rfl)
theorem dX13_is_132 : decode cX13_is 132 = .ok (.ifCond .ne 7, 3) := dk_154 0 7 (dk_at dksX13_is_5 9 rfl rfl)
theorem dX13_is_135 : decode cX13_is 135 = .ok (.iconst 1, 1) := dk_4 (dk_at dksX13_is_5 12 rfl rfl)
theorem dX13_is_136 : decode cX13_is 136 = .ok (.goto 4, 3) := dk_167 0 4 (dk_at dksX13_is_5 13 rfl rfl)
theorem dX13_is_139 : decode cX13_is 139 = .ok (.iconst 0, 1) := dk_3 (dk_at dksX13_is_5 16 rfl rfl)
theorem dX13_is_140 : decode cX13_is 140 = .ok (.ireturn, 1) := dk_172 (dk_at dksX13_is_5 17 rfl rfl)
theorem dX13_is_141 : decode cX13_is 141 = .ok (.lload_n 2, 1) := dk_32 (dk_at dksX13_is_5 18 rfl rfl)
theorem dX13_is_142 : decode cX13_is 142 = .ok (.lload 4, 2) := dk_22 4 (dk_at dksX13_is_5 19 rfl rfl)
theorem dX13_is_144 : decode cX13_is 144 = .ok (.lcmp, 1) := dk_148 (dk_at dksX13_is_5 21 rfl rfl)
theorem dX13_is_145 : decode cX13_is 145 = .ok (.ifCond .eq 7, 3) := dk_153 0 7 (dk_at dksX13_is_6 0 rfl rfl)
theorem dX13_is_148 : decode cX13_is 148 = .ok (.iconst 1, 1) := dk_4 (dk_at dksX13_is_6 3 rfl rfl)
theorem dX13_is_149 : decode cX13_is 149 = .ok (.goto 4, 3) := dk_167 0 4 (dk_at dksX13_is_6 4 rfl rfl)
theorem dX13_is_152 : decode cX13_is 152 = .ok (.iconst 0, 1) := dk_3 (dk_at dksX13_is_6 7 rfl rfl)
theorem dX13_is_153 : decode cX13_is 153 = .ok (.ireturn, 1) := dk_172 (dk_at dksX13_is_6 8 rfl rfl)
abbrev cX13_init : ByteArray := prog_4_method_1_code
def yX13_init : MethodName := ⟨RX13, "<init>", "(ILSpoonScales$Sum;LSpoonScales$Sum;)V"⟩
def dkwX13_init_0 : List UInt8 := [42, 183, 0, 1, 42, 27, 181, 0, 7, 42, 44, 181, 0, 13, 42, 45, 181, 0, 17, 177]
abbrev dktX13_init_0 : List UInt8 := dkwX13_init_0 ++ []
theorem dksX13_init_0 : cX13_init.data.toList.drop 0 = dktX13_init_0 := by decide +kernel
theorem dX13_init_0 : decode cX13_init 0 = .ok (.aload_n 0, 1) := dk_42 (dk_at dksX13_init_0 0 rfl rfl)
theorem dX13_init_1 : decode cX13_init 1 = .ok (.invokespecial 1, 3) := dk_183 0 1 (dk_at dksX13_init_0 1 rfl rfl)
theorem dX13_init_4 : decode cX13_init 4 = .ok (.aload_n 0, 1) := dk_42 (dk_at dksX13_init_0 4 rfl rfl)
theorem dX13_init_5 : decode cX13_init 5 = .ok (.iload_n 1, 1) := dk_27 (dk_at dksX13_init_0 5 rfl rfl)
theorem dX13_init_6 : decode cX13_init 6 = .ok (.putfield 7, 3) := dk_181 0 7 (dk_at dksX13_init_0 6 rfl rfl)
theorem dX13_init_9 : decode cX13_init 9 = .ok (.aload_n 0, 1) := dk_42 (dk_at dksX13_init_0 9 rfl rfl)
theorem dX13_init_10 : decode cX13_init 10 = .ok (.aload_n 2, 1) := dk_44 (dk_at dksX13_init_0 10 rfl rfl)
theorem dX13_init_11 : decode cX13_init 11 = .ok (.putfield 13, 3) := dk_181 0 13 (dk_at dksX13_init_0 11 rfl rfl)
theorem dX13_init_14 : decode cX13_init 14 = .ok (.aload_n 0, 1) := dk_42 (dk_at dksX13_init_0 14 rfl rfl)
theorem dX13_init_15 : decode cX13_init 15 = .ok (.aload_n 3, 1) := dk_45 (dk_at dksX13_init_0 15 rfl rfl)
theorem dX13_init_16 : decode cX13_init 16 = .ok (.putfield 17, 3) := dk_181 0 17 (dk_at dksX13_init_0 16 rfl rfl)
theorem dX13_init_19 : decode cX13_init 19 = .ok (.return_, 1) := dk_177 (dk_at dksX13_init_0 19 rfl rfl)
theorem q96 : (Jvm.Cond.initialized "SpoonScales$Compare") ∈ lw_all := lw_g (lw_at lw_m1 23 rfl) rfl
theorem q421 : (Jvm.Cond.castable "SpoonScales$Compare" "SpoonScales$Ask") ∈ lw_tbl := lw_at lw_m2 108 rfl
theorem q422 : (Jvm.Cond.selects "SpoonScales$Compare" ({ cls := "SpoonScales$Ask", name := "is", desc := "(LSpoonScales$View;)Z" } : Jvm.MethodName) ({ cls := "SpoonScales$Compare", name := "is", desc := "(LSpoonScales$View;)Z" } : Jvm.MethodName)) ∈ lw_all := lw_g (lw_at lw_m2 109 rfl) rfl
theorem q423 : (Jvm.Cond.unhidden "SpoonScales$Compare" "is" "(LSpoonScales$View;)Z") ∈ lw_tbl := lw_at lw_m2 110 rfl
theorem q424 : (Jvm.Cond.instanceMethod ({ cls := "SpoonScales$Compare", name := "is", desc := "(LSpoonScales$View;)Z" } : Jvm.MethodName)) ∈ lw_all := lw_g (lw_at lw_m2 111 rfl) rfl
theorem q425 : (Jvm.Cond.publicMethod ({ cls := "SpoonScales$Compare", name := "is", desc := "(LSpoonScales$View;)Z" } : Jvm.MethodName)) ∈ lw_tbl := lw_at lw_m2 112 rfl
theorem q426 : (Jvm.Cond.code ({ cls := "SpoonScales$Compare", name := "is", desc := "(LSpoonScales$View;)Z" } : Jvm.MethodName) prog_4_method_2_code (6 : Nat) (Option.some Jvm.ClassFile.FieldType.boolean)) ∈ lw_all := lw_g (lw_at lw_m2 113 rfl) rfl
theorem q427 : (Jvm.Cond.interfaceEntry "SpoonScales$Compare" (20 : Nat)) ∈ lw_tbl := lw_at lw_m2 114 rfl
theorem q428 : (Jvm.Cond.methodLink "SpoonScales$Compare" (20 : Nat) ({ cls := "SpoonScales$Sum", name := "of", desc := "(LSpoonScales$View;)J" } : Jvm.MethodName)) ∈ lw_all := lw_g (lw_at lw_m2 115 rfl) rfl
theorem q774 : (Jvm.Cond.instantiable "SpoonScales$Compare" (3 : Nat)) ∈ lw_all := lw_g (lw_at lw_m3 221 rfl) rfl
theorem q776 : (Jvm.Cond.instanceMethod ({ cls := "SpoonScales$Compare", name := "<init>", desc := "(ILSpoonScales$Sum;LSpoonScales$Sum;)V" } : Jvm.MethodName)) ∈ lw_all := lw_g (lw_at lw_m3 223 rfl) rfl
theorem q777 : (Jvm.Cond.code ({ cls := "SpoonScales$Compare", name := "<init>", desc := "(ILSpoonScales$Sum;LSpoonScales$Sum;)V" } : Jvm.MethodName) prog_4_method_1_code (4 : Nat) (Option.none : Option Jvm.ClassFile.FieldType)) ∈ lw_all := lw_g (lw_at lw_m3 224 rfl) rfl
theorem q778 : (Jvm.Cond.methodLink "SpoonScales$Compare" (1 : Nat) ({ cls := "java/lang/Object", name := "<init>", desc := "()V" } : Jvm.MethodName)) ∈ lw_all := lw_g (lw_at lw_m3 225 rfl) rfl
theorem q779 : (Jvm.Cond.fieldLink "SpoonScales$Compare" (7 : Nat) "SpoonScales$Compare" "how" "I") ∈ lw_all := lw_g (lw_at lw_m3 226 rfl) rfl
theorem q780 : (Jvm.Cond.fieldLink "SpoonScales$Compare" (13 : Nat) "SpoonScales$Compare" "a" "LSpoonScales$Sum;") ∈ lw_all := lw_g (lw_at lw_m3 227 rfl) rfl
theorem q781 : (Jvm.Cond.fieldLink "SpoonScales$Compare" (17 : Nat) "SpoonScales$Compare" "b" "LSpoonScales$Sum;") ∈ lw_all := lw_g (lw_at lw_m3 228 rfl) rfl
theorem q782 : (Jvm.Cond.laysFinal "SpoonScales$Compare" "SpoonScales$Compare" "how" "I") ∈ lw_all := lw_g (lw_at lw_m3 229 rfl) rfl
theorem q783 : (Jvm.Cond.soleField "SpoonScales$Compare" "how") ∈ lw_all := lw_g (lw_at lw_m3 230 rfl) rfl
theorem q784 : (Jvm.Cond.laysFinal "SpoonScales$Compare" "SpoonScales$Compare" "a" "LSpoonScales$Sum;") ∈ lw_all := lw_g (lw_at lw_m3 231 rfl) rfl
theorem q785 : (Jvm.Cond.soleField "SpoonScales$Compare" "a") ∈ lw_all := lw_g (lw_at lw_m3 232 rfl) rfl
theorem q786 : (Jvm.Cond.laysFinal "SpoonScales$Compare" "SpoonScales$Compare" "b" "LSpoonScales$Sum;") ∈ lw_all := lw_g (lw_at lw_m3 233 rfl) rfl
theorem q787 : (Jvm.Cond.soleField "SpoonScales$Compare" "b") ∈ lw_all := lw_g (lw_at lw_m3 234 rfl) rfl
theorem q788 : (Jvm.Cond.superclass "SpoonScales$Compare" "java/lang/Object") ∈ lw_all := lw_g (lw_at lw_m3 235 rfl) rfl
theorem in_X13 : ∀ w ∈ wsX130, w ∈ lw_all := lw_in wsX130 [782, 784, 786] (by decide +kernel) (by decide +kernel)

/-! SpoonScales$Both -/
set_option maxRecDepth 100000
def RX14 : String := "SpoonScales$Both"
def TX14 : u_T := fun k => match k with
  | 0 => ("SpoonScales$Both", "or", "Z", true)
  | 1 => ("SpoonScales$Both", "a", "LSpoonScales$Ask;", true)
  | _ => ("SpoonScales$Both", "b", "LSpoonScales$Ask;", true)
def tyX14 : Nat → FieldType := fun k => match k with
  | 0 => .boolean
  | 1 => .object "SpoonScales$Ask"
  | _ => .object "SpoonScales$Ask"
abbrev wsX140 : List Cond := u_ws RX14 TX14 3
theorem nmX14 : ∀ a, a < 3 → ∀ b, b < 3 → a ≠ b → (TX14 a).2.1 ≠ (TX14 b).2.1 := by decide +kernel
theorem tyX14_ok : ∀ k, k < 3 → parseFieldDescriptor (TX14 k).2.2.1 = some (tyX14 k) := by decide +kernel
abbrev cX14_is : ByteArray := prog_3_method_2_code
def yX14_is : MethodName := ⟨RX14, "is", "(LSpoonScales$View;)Z"⟩
def dkwX14_is_2 : List UInt8 := [153, 0, 11, 29, 153, 0, 7, 4, 167, 0, 4, 3, 172]
abbrev dktX14_is_2 : List UInt8 := dkwX14_is_2 ++ []
def dkwX14_is_1 : List UInt8 := [180, 0, 7, 153, 0, 19, 28, 154, 0, 7, 29, 153, 0, 7, 4, 167, 0, 20, 3, 167, 0, 16, 28]
abbrev dktX14_is_1 : List UInt8 := dkwX14_is_1 ++ dktX14_is_2
def dkwX14_is_0 : List UInt8 := [42, 180, 0, 13, 43, 185, 0, 20, 2, 0, 61, 42, 180, 0, 17, 43, 185, 0, 20, 2, 0, 62, 42]
abbrev dktX14_is_0 : List UInt8 := dkwX14_is_0 ++ dktX14_is_1
theorem dksX14_is_0 : cX14_is.data.toList.drop 0 = dktX14_is_0 := by decide +kernel
theorem dksX14_is_1 : cX14_is.data.toList.drop 23 = dktX14_is_1 := dk_seg dksX14_is_0 23 rfl rfl
theorem dksX14_is_2 : cX14_is.data.toList.drop 46 = dktX14_is_2 := dk_seg dksX14_is_1 23 rfl rfl
theorem dX14_is_0 : decode cX14_is 0 = .ok (.aload_n 0, 1) := dk_42 (dk_at dksX14_is_0 0 rfl rfl)
theorem dX14_is_1 : decode cX14_is 1 = .ok (.getfield 13, 3) := dk_180 0 13 (dk_at dksX14_is_0 1 rfl rfl)
theorem dX14_is_4 : decode cX14_is 4 = .ok (.aload_n 1, 1) := dk_43 (dk_at dksX14_is_0 4 rfl rfl)
theorem dX14_is_5 : decode cX14_is 5 = .ok (.invokeinterface 20 2, 5) := by decide +kernel
theorem dX14_is_10 : decode cX14_is 10 = .ok (.istore_n 2, 1) := dk_61 (dk_at dksX14_is_0 10 rfl rfl)
theorem dX14_is_11 : decode cX14_is 11 = .ok (.aload_n 0, 1) := dk_42 (dk_at dksX14_is_0 11 rfl rfl)
theorem dX14_is_12 : decode cX14_is 12 = .ok (.getfield 17, 3) := dk_180 0 17 (dk_at dksX14_is_0 12 rfl rfl)
theorem dX14_is_15 : decode cX14_is 15 = .ok (.aload_n 1, 1) := dk_43 (dk_at dksX14_is_0 15 rfl rfl)
theorem dX14_is_16 : decode cX14_is 16 = .ok (.invokeinterface 20 2, 5) := by decide +kernel
theorem dX14_is_21 : decode cX14_is 21 = .ok (.istore_n 3, 1) := dk_62 (dk_at dksX14_is_0 21 rfl rfl)
theorem dX14_is_22 : decode cX14_is 22 = .ok (.aload_n 0, 1) := dk_42 (dk_at dksX14_is_0 22 rfl rfl)
theorem dX14_is_23 : decode cX14_is 23 = .ok (.getfield 7, 3) := dk_180 0 7 (dk_at dksX14_is_1 0 rfl rfl)
theorem dX14_is_26 : decode cX14_is 26 = .ok (.ifCond .eq 19, 3) := dk_153 0 19 (dk_at dksX14_is_1 3 rfl rfl)
theorem dX14_is_29 : decode cX14_is 29 = .ok (.iload_n 2, 1) := dk_28 (dk_at dksX14_is_1 6 rfl rfl)
theorem dX14_is_30 : decode cX14_is 30 = .ok (.ifCond .ne 7, 3) := dk_154 0 7 (dk_at dksX14_is_1 7 rfl rfl)
theorem dX14_is_33 : decode cX14_is 33 = .ok (.iload_n 3, 1) := dk_29 (dk_at dksX14_is_1 10 rfl rfl)
theorem dX14_is_34 : decode cX14_is 34 = .ok (.ifCond .eq 7, 3) := dk_153 0 7 (dk_at dksX14_is_1 11 rfl rfl)
theorem dX14_is_37 : decode cX14_is 37 = .ok (.iconst 1, 1) := dk_4 (dk_at dksX14_is_1 14 rfl rfl)
theorem dX14_is_38 : decode cX14_is 38 = .ok (.goto 20, 3) := dk_167 0 20 (dk_at dksX14_is_1 15 rfl rfl)
theorem dX14_is_41 : decode cX14_is 41 = .ok (.iconst 0, 1) := dk_3 (dk_at dksX14_is_1 18 rfl rfl)
theorem dX14_is_42 : decode cX14_is 42 = .ok (.goto 16, 3) := dk_167 0 16 (dk_at dksX14_is_1 19 rfl rfl)
theorem dX14_is_45 : decode cX14_is 45 = .ok (.iload_n 2, 1) := dk_28 (dk_at dksX14_is_1 22 rfl rfl)
theorem dX14_is_46 : decode cX14_is 46 = .ok (.ifCond .eq 11, 3) := dk_153 0 11 (dk_at dksX14_is_2 0 rfl rfl)
theorem dX14_is_49 : decode cX14_is 49 = .ok (.iload_n 3, 1) := dk_29 (dk_at dksX14_is_2 3 rfl rfl)
theorem dX14_is_50 : decode cX14_is 50 = .ok (.ifCond .eq 7, 3) := dk_153 0 7 (dk_at dksX14_is_2 4 rfl rfl)
theorem dX14_is_53 : decode cX14_is 53 = .ok (.iconst 1, 1) := dk_4 (dk_at dksX14_is_2 7 rfl rfl)
theorem dX14_is_54 : decode cX14_is 54 = .ok (.goto 4, 3) := dk_167 0 4 (dk_at dksX14_is_2 8 rfl rfl)
theorem dX14_is_57 : decode cX14_is 57 = .ok (.iconst 0, 1) := dk_3 (dk_at dksX14_is_2 11 rfl rfl)
theorem dX14_is_58 : decode cX14_is 58 = .ok (.ireturn, 1) := dk_172 (dk_at dksX14_is_2 12 rfl rfl)
abbrev cX14_init : ByteArray := prog_3_method_1_code
def yX14_init : MethodName := ⟨RX14, "<init>", "(ZLSpoonScales$Ask;LSpoonScales$Ask;)V"⟩
def dkwX14_init_0 : List UInt8 := [42, 183, 0, 1, 42, 27, 181, 0, 7, 42, 44, 181, 0, 13, 42, 45, 181, 0, 17, 177]
abbrev dktX14_init_0 : List UInt8 := dkwX14_init_0 ++ []
theorem dksX14_init_0 : cX14_init.data.toList.drop 0 = dktX14_init_0 := by decide +kernel
theorem dX14_init_0 : decode cX14_init 0 = .ok (.aload_n 0, 1) := dk_42 (dk_at dksX14_init_0 0 rfl rfl)
theorem dX14_init_1 : decode cX14_init 1 = .ok (.invokespecial 1, 3) := dk_183 0 1 (dk_at dksX14_init_0 1 rfl rfl)
theorem dX14_init_4 : decode cX14_init 4 = .ok (.aload_n 0, 1) := dk_42 (dk_at dksX14_init_0 4 rfl rfl)
theorem dX14_init_5 : decode cX14_init 5 = .ok (.iload_n 1, 1) := dk_27 (dk_at dksX14_init_0 5 rfl rfl)
theorem dX14_init_6 : decode cX14_init 6 = .ok (.putfield 7, 3) := dk_181 0 7 (dk_at dksX14_init_0 6 rfl rfl)
theorem dX14_init_9 : decode cX14_init 9 = .ok (.aload_n 0, 1) := dk_42 (dk_at dksX14_init_0 9 rfl rfl)
theorem dX14_init_10 : decode cX14_init 10 = .ok (.aload_n 2, 1) := dk_44 (dk_at dksX14_init_0 10 rfl rfl)
theorem dX14_init_11 : decode cX14_init 11 = .ok (.putfield 13, 3) := dk_181 0 13 (dk_at dksX14_init_0 11 rfl rfl)
theorem dX14_init_14 : decode cX14_init 14 = .ok (.aload_n 0, 1) := dk_42 (dk_at dksX14_init_0 14 rfl rfl)
theorem dX14_init_15 : decode cX14_init 15 = .ok (.aload_n 3, 1) := dk_45 (dk_at dksX14_init_0 15 rfl rfl)
theorem dX14_init_16 : decode cX14_init 16 = .ok (.putfield 17, 3) := dk_181 0 17 (dk_at dksX14_init_0 16 rfl rfl)
theorem dX14_init_19 : decode cX14_init 19 = .ok (.return_, 1) := dk_177 (dk_at dksX14_init_0 19 rfl rfl)
theorem q97 : (Jvm.Cond.initialized "SpoonScales$Both") ∈ lw_all := lw_g (lw_at lw_m1 24 rfl) rfl
theorem q413 : (Jvm.Cond.castable "SpoonScales$Both" "SpoonScales$Ask") ∈ lw_tbl := lw_at lw_m2 100 rfl
theorem q414 : (Jvm.Cond.selects "SpoonScales$Both" ({ cls := "SpoonScales$Ask", name := "is", desc := "(LSpoonScales$View;)Z" } : Jvm.MethodName) ({ cls := "SpoonScales$Both", name := "is", desc := "(LSpoonScales$View;)Z" } : Jvm.MethodName)) ∈ lw_all := lw_g (lw_at lw_m2 101 rfl) rfl
theorem q415 : (Jvm.Cond.unhidden "SpoonScales$Both" "is" "(LSpoonScales$View;)Z") ∈ lw_tbl := lw_at lw_m2 102 rfl
theorem q416 : (Jvm.Cond.instanceMethod ({ cls := "SpoonScales$Both", name := "is", desc := "(LSpoonScales$View;)Z" } : Jvm.MethodName)) ∈ lw_all := lw_g (lw_at lw_m2 103 rfl) rfl
theorem q417 : (Jvm.Cond.publicMethod ({ cls := "SpoonScales$Both", name := "is", desc := "(LSpoonScales$View;)Z" } : Jvm.MethodName)) ∈ lw_tbl := lw_at lw_m2 104 rfl
theorem q418 : (Jvm.Cond.code ({ cls := "SpoonScales$Both", name := "is", desc := "(LSpoonScales$View;)Z" } : Jvm.MethodName) prog_3_method_2_code (4 : Nat) (Option.some Jvm.ClassFile.FieldType.boolean)) ∈ lw_all := lw_g (lw_at lw_m2 105 rfl) rfl
theorem q419 : (Jvm.Cond.interfaceEntry "SpoonScales$Both" (20 : Nat)) ∈ lw_tbl := lw_at lw_m2 106 rfl
theorem q420 : (Jvm.Cond.methodLink "SpoonScales$Both" (20 : Nat) ({ cls := "SpoonScales$Ask", name := "is", desc := "(LSpoonScales$View;)Z" } : Jvm.MethodName)) ∈ lw_all := lw_g (lw_at lw_m2 107 rfl) rfl
theorem q790 : (Jvm.Cond.instantiable "SpoonScales$Both" (3 : Nat)) ∈ lw_all := lw_g (lw_at lw_m3 237 rfl) rfl
theorem q792 : (Jvm.Cond.instanceMethod ({ cls := "SpoonScales$Both", name := "<init>", desc := "(ZLSpoonScales$Ask;LSpoonScales$Ask;)V" } : Jvm.MethodName)) ∈ lw_all := lw_g (lw_at lw_m3 239 rfl) rfl
theorem q793 : (Jvm.Cond.code ({ cls := "SpoonScales$Both", name := "<init>", desc := "(ZLSpoonScales$Ask;LSpoonScales$Ask;)V" } : Jvm.MethodName) prog_3_method_1_code (4 : Nat) (Option.none : Option Jvm.ClassFile.FieldType)) ∈ lw_all := lw_g (lw_at lw_m4 0 rfl) rfl
theorem q794 : (Jvm.Cond.methodLink "SpoonScales$Both" (1 : Nat) ({ cls := "java/lang/Object", name := "<init>", desc := "()V" } : Jvm.MethodName)) ∈ lw_all := lw_g (lw_at lw_m4 1 rfl) rfl
theorem q795 : (Jvm.Cond.fieldLink "SpoonScales$Both" (7 : Nat) "SpoonScales$Both" "or" "Z") ∈ lw_all := lw_g (lw_at lw_m4 2 rfl) rfl
theorem q796 : (Jvm.Cond.fieldLink "SpoonScales$Both" (13 : Nat) "SpoonScales$Both" "a" "LSpoonScales$Ask;") ∈ lw_all := lw_g (lw_at lw_m4 3 rfl) rfl
theorem q797 : (Jvm.Cond.fieldLink "SpoonScales$Both" (17 : Nat) "SpoonScales$Both" "b" "LSpoonScales$Ask;") ∈ lw_all := lw_g (lw_at lw_m4 4 rfl) rfl
theorem q798 : (Jvm.Cond.laysFinal "SpoonScales$Both" "SpoonScales$Both" "or" "Z") ∈ lw_all := lw_g (lw_at lw_m4 5 rfl) rfl
theorem q799 : (Jvm.Cond.soleField "SpoonScales$Both" "or") ∈ lw_all := lw_g (lw_at lw_m4 6 rfl) rfl
theorem q800 : (Jvm.Cond.laysFinal "SpoonScales$Both" "SpoonScales$Both" "a" "LSpoonScales$Ask;") ∈ lw_all := lw_g (lw_at lw_m4 7 rfl) rfl
theorem q801 : (Jvm.Cond.soleField "SpoonScales$Both" "a") ∈ lw_all := lw_g (lw_at lw_m4 8 rfl) rfl
theorem q802 : (Jvm.Cond.laysFinal "SpoonScales$Both" "SpoonScales$Both" "b" "LSpoonScales$Ask;") ∈ lw_all := lw_g (lw_at lw_m4 9 rfl) rfl
theorem q803 : (Jvm.Cond.soleField "SpoonScales$Both" "b") ∈ lw_all := lw_g (lw_at lw_m4 10 rfl) rfl
theorem q804 : (Jvm.Cond.superclass "SpoonScales$Both" "java/lang/Object") ∈ lw_all := lw_g (lw_at lw_m4 11 rfl) rfl
theorem in_X14 : ∀ w ∈ wsX140, w ∈ lw_all := lw_in wsX140 [798, 800, 802] (by decide +kernel) (by decide +kernel)

/-! SpoonScales$Judge -/
set_option maxRecDepth 100000
def RX15 : String := "SpoonScales$Judge"
def TX15 : u_T := fun k => match k with
  | _ => ("SpoonScales$Judge", "side", "I", true)
def tyX15 : Nat → FieldType := fun k => match k with
  | _ => .int
abbrev wsX150 : List Cond := u_ws RX15 TX15 1
theorem nmX15 : ∀ a, a < 1 → ∀ b, b < 1 → a ≠ b → (TX15 a).2.1 ≠ (TX15 b).2.1 := by decide +kernel
theorem tyX15_ok : ∀ k, k < 1 → parseFieldDescriptor (TX15 k).2.2.1 = some (tyX15 k) := by decide +kernel
abbrev cX15_init : ByteArray := prog_8_method_1_code
def yX15_init : MethodName := ⟨RX15, "<init>", "(I)V"⟩
def dkwX15_init_0 : List UInt8 := [42, 183, 0, 3, 42, 27, 181, 0, 9, 177]
abbrev dktX15_init_0 : List UInt8 := dkwX15_init_0 ++ []
theorem dksX15_init_0 : cX15_init.data.toList.drop 0 = dktX15_init_0 := by decide +kernel
theorem dX15_init_0 : decode cX15_init 0 = .ok (.aload_n 0, 1) := dk_42 (dk_at dksX15_init_0 0 rfl rfl)
theorem dX15_init_1 : decode cX15_init 1 = .ok (.invokespecial 3, 3) := dk_183 0 3 (dk_at dksX15_init_0 1 rfl rfl)
theorem dX15_init_4 : decode cX15_init 4 = .ok (.aload_n 0, 1) := dk_42 (dk_at dksX15_init_0 4 rfl rfl)
theorem dX15_init_5 : decode cX15_init 5 = .ok (.iload_n 1, 1) := dk_27 (dk_at dksX15_init_0 5 rfl rfl)
theorem dX15_init_6 : decode cX15_init 6 = .ok (.putfield 9, 3) := dk_181 0 9 (dk_at dksX15_init_0 6 rfl rfl)
theorem dX15_init_9 : decode cX15_init 9 = .ok (.return_, 1) := dk_177 (dk_at dksX15_init_0 9 rfl rfl)
abbrev cX15_done : ByteArray := prog_8_method_2_code
def yX15_done : MethodName := ⟨RX15, "done", "(LSpoonScales;)Z"⟩
def dkwX15_done_0 : List UInt8 := [43, 42, 180, 0, 9, 182, 0, 15, 2, 159, 0, 7, 4, 167, 0, 4, 3, 172]
abbrev dktX15_done_0 : List UInt8 := dkwX15_done_0 ++ []
theorem dksX15_done_0 : cX15_done.data.toList.drop 0 = dktX15_done_0 := by decide +kernel
theorem dX15_done_0 : decode cX15_done 0 = .ok (.aload_n 1, 1) := dk_43 (dk_at dksX15_done_0 0 rfl rfl)
theorem dX15_done_1 : decode cX15_done 1 = .ok (.aload_n 0, 1) := dk_42 (dk_at dksX15_done_0 1 rfl rfl)
theorem dX15_done_2 : decode cX15_done 2 = .ok (.getfield 9, 3) := dk_180 0 9 (dk_at dksX15_done_0 2 rfl rfl)
theorem dX15_done_5 : decode cX15_done 5 = .ok (.invokevirtual 15, 3) := dk_182 0 15 (dk_at dksX15_done_0 5 rfl rfl)
theorem dX15_done_8 : decode cX15_done 8 = .ok (.iconst (-1), 1) := dk_2 (dk_at dksX15_done_0 8 rfl rfl)
theorem dX15_done_9 : decode cX15_done 9 = .ok (.if_icmp .eq 7, 3) := dk_159 0 7 (dk_at dksX15_done_0 9 rfl rfl)
theorem dX15_done_12 : decode cX15_done 12 = .ok (.iconst 1, 1) := dk_4 (dk_at dksX15_done_0 12 rfl rfl)
theorem dX15_done_13 : decode cX15_done 13 = .ok (.goto 4, 3) := dk_167 0 4 (dk_at dksX15_done_0 13 rfl rfl)
theorem dX15_done_16 : decode cX15_done 16 = .ok (.iconst 0, 1) := dk_3 (dk_at dksX15_done_0 16 rfl rfl)
theorem dX15_done_17 : decode cX15_done 17 = .ok (.ireturn, 1) := dk_172 (dk_at dksX15_done_0 17 rfl rfl)
theorem q98 : (Jvm.Cond.initialized "SpoonScales$Judge") ∈ lw_all := lw_g (lw_at lw_m1 25 rfl) rfl
theorem q810 : (Jvm.Cond.instantiable "SpoonScales$Judge" (1 : Nat)) ∈ lw_all := lw_g (lw_at lw_m4 17 rfl) rfl
theorem q812 : (Jvm.Cond.instanceMethod ({ cls := "SpoonScales$Judge", name := "<init>", desc := "(I)V" } : Jvm.MethodName)) ∈ lw_all := lw_g (lw_at lw_m4 19 rfl) rfl
theorem q813 : (Jvm.Cond.code ({ cls := "SpoonScales$Judge", name := "<init>", desc := "(I)V" } : Jvm.MethodName) prog_8_method_1_code (2 : Nat) (Option.none : Option Jvm.ClassFile.FieldType)) ∈ lw_all := lw_g (lw_at lw_m4 20 rfl) rfl
theorem q814 : (Jvm.Cond.methodLink "SpoonScales$Judge" (3 : Nat) ({ cls := "java/lang/Object", name := "<init>", desc := "()V" } : Jvm.MethodName)) ∈ lw_all := lw_g (lw_at lw_m4 21 rfl) rfl
theorem q815 : (Jvm.Cond.fieldLink "SpoonScales$Judge" (9 : Nat) "SpoonScales$Judge" "side" "I") ∈ lw_all := lw_g (lw_at lw_m4 22 rfl) rfl
theorem q816 : (Jvm.Cond.laysFinal "SpoonScales$Judge" "SpoonScales$Judge" "side" "I") ∈ lw_all := lw_g (lw_at lw_m4 23 rfl) rfl
theorem q817 : (Jvm.Cond.soleField "SpoonScales$Judge" "side") ∈ lw_all := lw_g (lw_at lw_m4 24 rfl) rfl
theorem q818 : (Jvm.Cond.superclass "SpoonScales$Judge" "java/lang/Object") ∈ lw_all := lw_g (lw_at lw_m4 25 rfl) rfl
theorem q878 : (Jvm.Cond.castable "SpoonScales$Judge" "SpoonScales$Line") ∈ lw_tbl := lw_at lw_m4 85 rfl
theorem q879 : (Jvm.Cond.selects "SpoonScales$Judge" ({ cls := "SpoonScales$Line", name := "done", desc := "(LSpoonScales;)Z" } : Jvm.MethodName) ({ cls := "SpoonScales$Judge", name := "done", desc := "(LSpoonScales;)Z" } : Jvm.MethodName)) ∈ lw_all := lw_g (lw_at lw_m4 86 rfl) rfl
theorem q880 : (Jvm.Cond.unhidden "SpoonScales$Judge" "done" "(LSpoonScales;)Z") ∈ lw_tbl := lw_at lw_m4 87 rfl
theorem q881 : (Jvm.Cond.instanceMethod ({ cls := "SpoonScales$Judge", name := "done", desc := "(LSpoonScales;)Z" } : Jvm.MethodName)) ∈ lw_all := lw_g (lw_at lw_m4 88 rfl) rfl
theorem q882 : (Jvm.Cond.publicMethod ({ cls := "SpoonScales$Judge", name := "done", desc := "(LSpoonScales;)Z" } : Jvm.MethodName)) ∈ lw_tbl := lw_at lw_m4 89 rfl
theorem q883 : (Jvm.Cond.code ({ cls := "SpoonScales$Judge", name := "done", desc := "(LSpoonScales;)Z" } : Jvm.MethodName) prog_8_method_2_code (2 : Nat) (Option.some Jvm.ClassFile.FieldType.boolean)) ∈ lw_all := lw_g (lw_at lw_m4 90 rfl) rfl
theorem q884 : (Jvm.Cond.methodLink "SpoonScales$Judge" (15 : Nat) ({ cls := "SpoonScales", name := "judge", desc := "(I)I" } : Jvm.MethodName)) ∈ lw_all := lw_g (lw_at lw_m4 91 rfl) rfl
theorem in_X15 : ∀ w ∈ wsX150, w ∈ lw_all := lw_in wsX150 [816] (by decide +kernel) (by decide +kernel)

/-! SpoonScales$Flies -/
set_option maxRecDepth 100000
def RX16 : String := "SpoonScales$Flies"
def TX16 : u_T := fun k => match k with
  | _ => ("SpoonScales$Flies", "n", "I", true)
def tyX16 : Nat → FieldType := fun k => match k with
  | _ => .int
abbrev wsX160 : List Cond := u_ws RX16 TX16 1
theorem nmX16 : ∀ a, a < 1 → ∀ b, b < 1 → a ≠ b → (TX16 a).2.1 ≠ (TX16 b).2.1 := by decide +kernel
theorem tyX16_ok : ∀ k, k < 1 → parseFieldDescriptor (TX16 k).2.2.1 = some (tyX16 k) := by decide +kernel
abbrev cX16_init : ByteArray := prog_7_method_1_code
def yX16_init : MethodName := ⟨RX16, "<init>", "(I)V"⟩
def dkwX16_init_0 : List UInt8 := [42, 183, 0, 3, 42, 27, 181, 0, 9, 177]
abbrev dktX16_init_0 : List UInt8 := dkwX16_init_0 ++ []
theorem dksX16_init_0 : cX16_init.data.toList.drop 0 = dktX16_init_0 := by decide +kernel
theorem dX16_init_0 : decode cX16_init 0 = .ok (.aload_n 0, 1) := dk_42 (dk_at dksX16_init_0 0 rfl rfl)
theorem dX16_init_1 : decode cX16_init 1 = .ok (.invokespecial 3, 3) := dk_183 0 3 (dk_at dksX16_init_0 1 rfl rfl)
theorem dX16_init_4 : decode cX16_init 4 = .ok (.aload_n 0, 1) := dk_42 (dk_at dksX16_init_0 4 rfl rfl)
theorem dX16_init_5 : decode cX16_init 5 = .ok (.iload_n 1, 1) := dk_27 (dk_at dksX16_init_0 5 rfl rfl)
theorem dX16_init_6 : decode cX16_init 6 = .ok (.putfield 9, 3) := dk_181 0 9 (dk_at dksX16_init_0 6 rfl rfl)
theorem dX16_init_9 : decode cX16_init 9 = .ok (.return_, 1) := dk_177 (dk_at dksX16_init_0 9 rfl rfl)
abbrev cX16_done : ByteArray := prog_7_method_2_code
def yX16_done : MethodName := ⟨RX16, "done", "(LSpoonScales;)Z"⟩
def dkwX16_done_0 : List UInt8 := [43, 42, 180, 0, 9, 182, 0, 15, 2, 159, 0, 7, 4, 167, 0, 4, 3, 172]
abbrev dktX16_done_0 : List UInt8 := dkwX16_done_0 ++ []
theorem dksX16_done_0 : cX16_done.data.toList.drop 0 = dktX16_done_0 := by decide +kernel
theorem dX16_done_0 : decode cX16_done 0 = .ok (.aload_n 1, 1) := dk_43 (dk_at dksX16_done_0 0 rfl rfl)
theorem dX16_done_1 : decode cX16_done 1 = .ok (.aload_n 0, 1) := dk_42 (dk_at dksX16_done_0 1 rfl rfl)
theorem dX16_done_2 : decode cX16_done 2 = .ok (.getfield 9, 3) := dk_180 0 9 (dk_at dksX16_done_0 2 rfl rfl)
theorem dX16_done_5 : decode cX16_done 5 = .ok (.invokevirtual 15, 3) := dk_182 0 15 (dk_at dksX16_done_0 5 rfl rfl)
theorem dX16_done_8 : decode cX16_done 8 = .ok (.iconst (-1), 1) := dk_2 (dk_at dksX16_done_0 8 rfl rfl)
theorem dX16_done_9 : decode cX16_done 9 = .ok (.if_icmp .eq 7, 3) := dk_159 0 7 (dk_at dksX16_done_0 9 rfl rfl)
theorem dX16_done_12 : decode cX16_done 12 = .ok (.iconst 1, 1) := dk_4 (dk_at dksX16_done_0 12 rfl rfl)
theorem dX16_done_13 : decode cX16_done 13 = .ok (.goto 4, 3) := dk_167 0 4 (dk_at dksX16_done_0 13 rfl rfl)
theorem dX16_done_16 : decode cX16_done 16 = .ok (.iconst 0, 1) := dk_3 (dk_at dksX16_done_0 16 rfl rfl)
theorem dX16_done_17 : decode cX16_done 17 = .ok (.ireturn, 1) := dk_172 (dk_at dksX16_done_0 17 rfl rfl)
theorem q99 : (Jvm.Cond.initialized "SpoonScales$Flies") ∈ lw_all := lw_g (lw_at lw_m1 26 rfl) rfl
theorem q820 : (Jvm.Cond.instantiable "SpoonScales$Flies" (1 : Nat)) ∈ lw_all := lw_g (lw_at lw_m4 27 rfl) rfl
theorem q822 : (Jvm.Cond.instanceMethod ({ cls := "SpoonScales$Flies", name := "<init>", desc := "(I)V" } : Jvm.MethodName)) ∈ lw_all := lw_g (lw_at lw_m4 29 rfl) rfl
theorem q823 : (Jvm.Cond.code ({ cls := "SpoonScales$Flies", name := "<init>", desc := "(I)V" } : Jvm.MethodName) prog_7_method_1_code (2 : Nat) (Option.none : Option Jvm.ClassFile.FieldType)) ∈ lw_all := lw_g (lw_at lw_m4 30 rfl) rfl
theorem q824 : (Jvm.Cond.methodLink "SpoonScales$Flies" (3 : Nat) ({ cls := "java/lang/Object", name := "<init>", desc := "()V" } : Jvm.MethodName)) ∈ lw_all := lw_g (lw_at lw_m4 31 rfl) rfl
theorem q825 : (Jvm.Cond.fieldLink "SpoonScales$Flies" (9 : Nat) "SpoonScales$Flies" "n" "I") ∈ lw_all := lw_g (lw_at lw_m4 32 rfl) rfl
theorem q826 : (Jvm.Cond.laysFinal "SpoonScales$Flies" "SpoonScales$Flies" "n" "I") ∈ lw_all := lw_g (lw_at lw_m4 33 rfl) rfl
theorem q827 : (Jvm.Cond.soleField "SpoonScales$Flies" "n") ∈ lw_all := lw_g (lw_at lw_m4 34 rfl) rfl
theorem q828 : (Jvm.Cond.superclass "SpoonScales$Flies" "java/lang/Object") ∈ lw_all := lw_g (lw_at lw_m4 35 rfl) rfl
theorem q871 : (Jvm.Cond.castable "SpoonScales$Flies" "SpoonScales$Line") ∈ lw_tbl := lw_at lw_m4 78 rfl
theorem q872 : (Jvm.Cond.selects "SpoonScales$Flies" ({ cls := "SpoonScales$Line", name := "done", desc := "(LSpoonScales;)Z" } : Jvm.MethodName) ({ cls := "SpoonScales$Flies", name := "done", desc := "(LSpoonScales;)Z" } : Jvm.MethodName)) ∈ lw_all := lw_g (lw_at lw_m4 79 rfl) rfl
theorem q873 : (Jvm.Cond.unhidden "SpoonScales$Flies" "done" "(LSpoonScales;)Z") ∈ lw_tbl := lw_at lw_m4 80 rfl
theorem q874 : (Jvm.Cond.instanceMethod ({ cls := "SpoonScales$Flies", name := "done", desc := "(LSpoonScales;)Z" } : Jvm.MethodName)) ∈ lw_all := lw_g (lw_at lw_m4 81 rfl) rfl
theorem q875 : (Jvm.Cond.publicMethod ({ cls := "SpoonScales$Flies", name := "done", desc := "(LSpoonScales;)Z" } : Jvm.MethodName)) ∈ lw_tbl := lw_at lw_m4 82 rfl
theorem q876 : (Jvm.Cond.code ({ cls := "SpoonScales$Flies", name := "done", desc := "(LSpoonScales;)Z" } : Jvm.MethodName) prog_7_method_2_code (2 : Nat) (Option.some Jvm.ClassFile.FieldType.boolean)) ∈ lw_all := lw_g (lw_at lw_m4 83 rfl) rfl
theorem q877 : (Jvm.Cond.methodLink "SpoonScales$Flies" (15 : Nat) ({ cls := "SpoonScales", name := "flies", desc := "(I)I" } : Jvm.MethodName)) ∈ lw_all := lw_g (lw_at lw_m4 84 rfl) rfl
theorem in_X16 : ∀ w ∈ wsX160, w ∈ lw_all := lw_in wsX160 [826] (by decide +kernel) (by decide +kernel)

/-! SpoonScales$Sit -/
set_option maxRecDepth 100000
def RX17 : String := "SpoonScales$Sit"
def TX17 : u_T := fun k => match k with
  | 0 => ("SpoonScales$Sit", "eater", "I", true)
  | _ => ("SpoonScales$Sit", "side", "I", true)
def tyX17 : Nat → FieldType := fun k => match k with
  | 0 => .int
  | _ => .int
abbrev wsX170 : List Cond := u_ws RX17 TX17 2
theorem nmX17 : ∀ a, a < 2 → ∀ b, b < 2 → a ≠ b → (TX17 a).2.1 ≠ (TX17 b).2.1 := by decide +kernel
theorem tyX17_ok : ∀ k, k < 2 → parseFieldDescriptor (TX17 k).2.2.1 = some (tyX17 k) := by decide +kernel
abbrev cX17_init : ByteArray := prog_15_method_1_code
def yX17_init : MethodName := ⟨RX17, "<init>", "(II)V"⟩
def dkwX17_init_0 : List UInt8 := [42, 183, 0, 1, 42, 27, 181, 0, 7, 42, 28, 181, 0, 13, 177]
abbrev dktX17_init_0 : List UInt8 := dkwX17_init_0 ++ []
theorem dksX17_init_0 : cX17_init.data.toList.drop 0 = dktX17_init_0 := by decide +kernel
theorem dX17_init_0 : decode cX17_init 0 = .ok (.aload_n 0, 1) := dk_42 (dk_at dksX17_init_0 0 rfl rfl)
theorem dX17_init_1 : decode cX17_init 1 = .ok (.invokespecial 1, 3) := dk_183 0 1 (dk_at dksX17_init_0 1 rfl rfl)
theorem dX17_init_4 : decode cX17_init 4 = .ok (.aload_n 0, 1) := dk_42 (dk_at dksX17_init_0 4 rfl rfl)
theorem dX17_init_5 : decode cX17_init 5 = .ok (.iload_n 1, 1) := dk_27 (dk_at dksX17_init_0 5 rfl rfl)
theorem dX17_init_6 : decode cX17_init 6 = .ok (.putfield 7, 3) := dk_181 0 7 (dk_at dksX17_init_0 6 rfl rfl)
theorem dX17_init_9 : decode cX17_init 9 = .ok (.aload_n 0, 1) := dk_42 (dk_at dksX17_init_0 9 rfl rfl)
theorem dX17_init_10 : decode cX17_init 10 = .ok (.iload_n 2, 1) := dk_28 (dk_at dksX17_init_0 10 rfl rfl)
theorem dX17_init_11 : decode cX17_init 11 = .ok (.putfield 13, 3) := dk_181 0 13 (dk_at dksX17_init_0 11 rfl rfl)
theorem dX17_init_14 : decode cX17_init 14 = .ok (.return_, 1) := dk_177 (dk_at dksX17_init_0 14 rfl rfl)
abbrev cX17_done : ByteArray := prog_15_method_2_code
def yX17_done : MethodName := ⟨RX17, "done", "(LSpoonScales;)Z"⟩
def dkwX17_done_0 : List UInt8 := [43, 42, 180, 0, 7, 42, 180, 0, 13, 182, 0, 16, 172]
abbrev dktX17_done_0 : List UInt8 := dkwX17_done_0 ++ []
theorem dksX17_done_0 : cX17_done.data.toList.drop 0 = dktX17_done_0 := by decide +kernel
theorem dX17_done_0 : decode cX17_done 0 = .ok (.aload_n 1, 1) := dk_43 (dk_at dksX17_done_0 0 rfl rfl)
theorem dX17_done_1 : decode cX17_done 1 = .ok (.aload_n 0, 1) := dk_42 (dk_at dksX17_done_0 1 rfl rfl)
theorem dX17_done_2 : decode cX17_done 2 = .ok (.getfield 7, 3) := dk_180 0 7 (dk_at dksX17_done_0 2 rfl rfl)
theorem dX17_done_5 : decode cX17_done 5 = .ok (.aload_n 0, 1) := dk_42 (dk_at dksX17_done_0 5 rfl rfl)
theorem dX17_done_6 : decode cX17_done 6 = .ok (.getfield 13, 3) := dk_180 0 13 (dk_at dksX17_done_0 6 rfl rfl)
theorem dX17_done_9 : decode cX17_done 9 = .ok (.invokevirtual 16, 3) := dk_182 0 16 (dk_at dksX17_done_0 9 rfl rfl)
theorem dX17_done_12 : decode cX17_done 12 = .ok (.ireturn, 1) := dk_172 (dk_at dksX17_done_0 12 rfl rfl)
theorem q100 : (Jvm.Cond.initialized "SpoonScales$Sit") ∈ lw_all := lw_g (lw_at lw_m1 27 rfl) rfl
theorem q830 : (Jvm.Cond.instantiable "SpoonScales$Sit" (2 : Nat)) ∈ lw_all := lw_g (lw_at lw_m4 37 rfl) rfl
theorem q832 : (Jvm.Cond.instanceMethod ({ cls := "SpoonScales$Sit", name := "<init>", desc := "(II)V" } : Jvm.MethodName)) ∈ lw_all := lw_g (lw_at lw_m4 39 rfl) rfl
theorem q833 : (Jvm.Cond.code ({ cls := "SpoonScales$Sit", name := "<init>", desc := "(II)V" } : Jvm.MethodName) prog_15_method_1_code (3 : Nat) (Option.none : Option Jvm.ClassFile.FieldType)) ∈ lw_all := lw_g (lw_at lw_m4 40 rfl) rfl
theorem q834 : (Jvm.Cond.methodLink "SpoonScales$Sit" (1 : Nat) ({ cls := "java/lang/Object", name := "<init>", desc := "()V" } : Jvm.MethodName)) ∈ lw_all := lw_g (lw_at lw_m4 41 rfl) rfl
theorem q835 : (Jvm.Cond.fieldLink "SpoonScales$Sit" (7 : Nat) "SpoonScales$Sit" "eater" "I") ∈ lw_all := lw_g (lw_at lw_m4 42 rfl) rfl
theorem q836 : (Jvm.Cond.fieldLink "SpoonScales$Sit" (13 : Nat) "SpoonScales$Sit" "side" "I") ∈ lw_all := lw_g (lw_at lw_m4 43 rfl) rfl
theorem q837 : (Jvm.Cond.laysFinal "SpoonScales$Sit" "SpoonScales$Sit" "eater" "I") ∈ lw_all := lw_g (lw_at lw_m4 44 rfl) rfl
theorem q838 : (Jvm.Cond.soleField "SpoonScales$Sit" "eater") ∈ lw_all := lw_g (lw_at lw_m4 45 rfl) rfl
theorem q839 : (Jvm.Cond.laysFinal "SpoonScales$Sit" "SpoonScales$Sit" "side" "I") ∈ lw_all := lw_g (lw_at lw_m4 46 rfl) rfl
theorem q840 : (Jvm.Cond.soleField "SpoonScales$Sit" "side") ∈ lw_all := lw_g (lw_at lw_m4 47 rfl) rfl
theorem q841 : (Jvm.Cond.superclass "SpoonScales$Sit" "java/lang/Object") ∈ lw_all := lw_g (lw_at lw_m4 48 rfl) rfl
theorem q885 : (Jvm.Cond.castable "SpoonScales$Sit" "SpoonScales$Line") ∈ lw_tbl := lw_at lw_m4 92 rfl
theorem q886 : (Jvm.Cond.selects "SpoonScales$Sit" ({ cls := "SpoonScales$Line", name := "done", desc := "(LSpoonScales;)Z" } : Jvm.MethodName) ({ cls := "SpoonScales$Sit", name := "done", desc := "(LSpoonScales;)Z" } : Jvm.MethodName)) ∈ lw_all := lw_g (lw_at lw_m4 93 rfl) rfl
theorem q887 : (Jvm.Cond.unhidden "SpoonScales$Sit" "done" "(LSpoonScales;)Z") ∈ lw_tbl := lw_at lw_m4 94 rfl
theorem q888 : (Jvm.Cond.instanceMethod ({ cls := "SpoonScales$Sit", name := "done", desc := "(LSpoonScales;)Z" } : Jvm.MethodName)) ∈ lw_all := lw_g (lw_at lw_m4 95 rfl) rfl
theorem q889 : (Jvm.Cond.publicMethod ({ cls := "SpoonScales$Sit", name := "done", desc := "(LSpoonScales;)Z" } : Jvm.MethodName)) ∈ lw_tbl := lw_at lw_m4 96 rfl
theorem q890 : (Jvm.Cond.code ({ cls := "SpoonScales$Sit", name := "done", desc := "(LSpoonScales;)Z" } : Jvm.MethodName) prog_15_method_2_code (2 : Nat) (Option.some Jvm.ClassFile.FieldType.boolean)) ∈ lw_all := lw_g (lw_at lw_m4 97 rfl) rfl
theorem q891 : (Jvm.Cond.methodLink "SpoonScales$Sit" (16 : Nat) ({ cls := "SpoonScales", name := "sit", desc := "(II)Z" } : Jvm.MethodName)) ∈ lw_all := lw_g (lw_at lw_m4 98 rfl) rfl
theorem in_X17 : ∀ w ∈ wsX170, w ∈ lw_all := lw_in wsX170 [837, 839] (by decide +kernel) (by decide +kernel)

/-! SpoonScales$Spoon -/
set_option maxRecDepth 100000
def RX18 : String := "SpoonScales$Spoon"
def TX18 : u_T := fun k => match k with
  | 0 => ("SpoonScales$Spoon", "eater", "I", true)
  | _ => ("SpoonScales$Spoon", "kind", "I", true)
def tyX18 : Nat → FieldType := fun k => match k with
  | 0 => .int
  | _ => .int
abbrev wsX180 : List Cond := u_ws RX18 TX18 2
theorem nmX18 : ∀ a, a < 2 → ∀ b, b < 2 → a ≠ b → (TX18 a).2.1 ≠ (TX18 b).2.1 := by decide +kernel
theorem tyX18_ok : ∀ k, k < 2 → parseFieldDescriptor (TX18 k).2.2.1 = some (tyX18 k) := by decide +kernel
abbrev cX18_init : ByteArray := prog_16_method_1_code
def yX18_init : MethodName := ⟨RX18, "<init>", "(II)V"⟩
def dkwX18_init_0 : List UInt8 := [42, 183, 0, 3, 42, 27, 181, 0, 9, 42, 28, 181, 0, 15, 177]
abbrev dktX18_init_0 : List UInt8 := dkwX18_init_0 ++ []
theorem dksX18_init_0 : cX18_init.data.toList.drop 0 = dktX18_init_0 := by decide +kernel
theorem dX18_init_0 : decode cX18_init 0 = .ok (.aload_n 0, 1) := dk_42 (dk_at dksX18_init_0 0 rfl rfl)
theorem dX18_init_1 : decode cX18_init 1 = .ok (.invokespecial 3, 3) := dk_183 0 3 (dk_at dksX18_init_0 1 rfl rfl)
theorem dX18_init_4 : decode cX18_init 4 = .ok (.aload_n 0, 1) := dk_42 (dk_at dksX18_init_0 4 rfl rfl)
theorem dX18_init_5 : decode cX18_init 5 = .ok (.iload_n 1, 1) := dk_27 (dk_at dksX18_init_0 5 rfl rfl)
theorem dX18_init_6 : decode cX18_init 6 = .ok (.putfield 9, 3) := dk_181 0 9 (dk_at dksX18_init_0 6 rfl rfl)
theorem dX18_init_9 : decode cX18_init 9 = .ok (.aload_n 0, 1) := dk_42 (dk_at dksX18_init_0 9 rfl rfl)
theorem dX18_init_10 : decode cX18_init 10 = .ok (.iload_n 2, 1) := dk_28 (dk_at dksX18_init_0 10 rfl rfl)
theorem dX18_init_11 : decode cX18_init 11 = .ok (.putfield 15, 3) := dk_181 0 15 (dk_at dksX18_init_0 11 rfl rfl)
theorem dX18_init_14 : decode cX18_init 14 = .ok (.return_, 1) := dk_177 (dk_at dksX18_init_0 14 rfl rfl)
abbrev cX18_done : ByteArray := prog_16_method_2_code
def yX18_done : MethodName := ⟨RX18, "done", "(LSpoonScales;)Z"⟩
def dkwX18_done_0 : List UInt8 := [43, 42, 180, 0, 9, 42, 180, 0, 15, 182, 0, 18, 2, 159, 0, 7, 4, 167, 0, 4, 3, 172]
abbrev dktX18_done_0 : List UInt8 := dkwX18_done_0 ++ []
theorem dksX18_done_0 : cX18_done.data.toList.drop 0 = dktX18_done_0 := by decide +kernel
theorem dX18_done_0 : decode cX18_done 0 = .ok (.aload_n 1, 1) := dk_43 (dk_at dksX18_done_0 0 rfl rfl)
theorem dX18_done_1 : decode cX18_done 1 = .ok (.aload_n 0, 1) := dk_42 (dk_at dksX18_done_0 1 rfl rfl)
theorem dX18_done_2 : decode cX18_done 2 = .ok (.getfield 9, 3) := dk_180 0 9 (dk_at dksX18_done_0 2 rfl rfl)
theorem dX18_done_5 : decode cX18_done 5 = .ok (.aload_n 0, 1) := dk_42 (dk_at dksX18_done_0 5 rfl rfl)
theorem dX18_done_6 : decode cX18_done 6 = .ok (.getfield 15, 3) := dk_180 0 15 (dk_at dksX18_done_0 6 rfl rfl)
theorem dX18_done_9 : decode cX18_done 9 = .ok (.invokevirtual 18, 3) := dk_182 0 18 (dk_at dksX18_done_0 9 rfl rfl)
theorem dX18_done_12 : decode cX18_done 12 = .ok (.iconst (-1), 1) := dk_2 (dk_at dksX18_done_0 12 rfl rfl)
theorem dX18_done_13 : decode cX18_done 13 = .ok (.if_icmp .eq 7, 3) := dk_159 0 7 (dk_at dksX18_done_0 13 rfl rfl)
theorem dX18_done_16 : decode cX18_done 16 = .ok (.iconst 1, 1) := dk_4 (dk_at dksX18_done_0 16 rfl rfl)
theorem dX18_done_17 : decode cX18_done 17 = .ok (.goto 4, 3) := dk_167 0 4 (dk_at dksX18_done_0 17 rfl rfl)
theorem dX18_done_20 : decode cX18_done 20 = .ok (.iconst 0, 1) := dk_3 (dk_at dksX18_done_0 20 rfl rfl)
theorem dX18_done_21 : decode cX18_done 21 = .ok (.ireturn, 1) := dk_172 (dk_at dksX18_done_0 21 rfl rfl)
theorem q101 : (Jvm.Cond.initialized "SpoonScales$Spoon") ∈ lw_all := lw_g (lw_at lw_m1 28 rfl) rfl
theorem q843 : (Jvm.Cond.instantiable "SpoonScales$Spoon" (2 : Nat)) ∈ lw_all := lw_g (lw_at lw_m4 50 rfl) rfl
theorem q845 : (Jvm.Cond.instanceMethod ({ cls := "SpoonScales$Spoon", name := "<init>", desc := "(II)V" } : Jvm.MethodName)) ∈ lw_all := lw_g (lw_at lw_m4 52 rfl) rfl
theorem q846 : (Jvm.Cond.code ({ cls := "SpoonScales$Spoon", name := "<init>", desc := "(II)V" } : Jvm.MethodName) prog_16_method_1_code (3 : Nat) (Option.none : Option Jvm.ClassFile.FieldType)) ∈ lw_all := lw_g (lw_at lw_m4 53 rfl) rfl
theorem q847 : (Jvm.Cond.methodLink "SpoonScales$Spoon" (3 : Nat) ({ cls := "java/lang/Object", name := "<init>", desc := "()V" } : Jvm.MethodName)) ∈ lw_all := lw_g (lw_at lw_m4 54 rfl) rfl
theorem q848 : (Jvm.Cond.fieldLink "SpoonScales$Spoon" (9 : Nat) "SpoonScales$Spoon" "eater" "I") ∈ lw_all := lw_g (lw_at lw_m4 55 rfl) rfl
theorem q849 : (Jvm.Cond.fieldLink "SpoonScales$Spoon" (15 : Nat) "SpoonScales$Spoon" "kind" "I") ∈ lw_all := lw_g (lw_at lw_m4 56 rfl) rfl
theorem q850 : (Jvm.Cond.laysFinal "SpoonScales$Spoon" "SpoonScales$Spoon" "eater" "I") ∈ lw_all := lw_g (lw_at lw_m4 57 rfl) rfl
theorem q851 : (Jvm.Cond.soleField "SpoonScales$Spoon" "eater") ∈ lw_all := lw_g (lw_at lw_m4 58 rfl) rfl
theorem q852 : (Jvm.Cond.laysFinal "SpoonScales$Spoon" "SpoonScales$Spoon" "kind" "I") ∈ lw_all := lw_g (lw_at lw_m4 59 rfl) rfl
theorem q853 : (Jvm.Cond.soleField "SpoonScales$Spoon" "kind") ∈ lw_all := lw_g (lw_at lw_m4 60 rfl) rfl
theorem q854 : (Jvm.Cond.superclass "SpoonScales$Spoon" "java/lang/Object") ∈ lw_all := lw_g (lw_at lw_m4 61 rfl) rfl
theorem q892 : (Jvm.Cond.castable "SpoonScales$Spoon" "SpoonScales$Line") ∈ lw_tbl := lw_at lw_m4 99 rfl
theorem q893 : (Jvm.Cond.selects "SpoonScales$Spoon" ({ cls := "SpoonScales$Line", name := "done", desc := "(LSpoonScales;)Z" } : Jvm.MethodName) ({ cls := "SpoonScales$Spoon", name := "done", desc := "(LSpoonScales;)Z" } : Jvm.MethodName)) ∈ lw_all := lw_g (lw_at lw_m4 100 rfl) rfl
theorem q894 : (Jvm.Cond.unhidden "SpoonScales$Spoon" "done" "(LSpoonScales;)Z") ∈ lw_tbl := lw_at lw_m4 101 rfl
theorem q895 : (Jvm.Cond.instanceMethod ({ cls := "SpoonScales$Spoon", name := "done", desc := "(LSpoonScales;)Z" } : Jvm.MethodName)) ∈ lw_all := lw_g (lw_at lw_m4 102 rfl) rfl
theorem q896 : (Jvm.Cond.publicMethod ({ cls := "SpoonScales$Spoon", name := "done", desc := "(LSpoonScales;)Z" } : Jvm.MethodName)) ∈ lw_tbl := lw_at lw_m4 103 rfl
theorem q897 : (Jvm.Cond.code ({ cls := "SpoonScales$Spoon", name := "done", desc := "(LSpoonScales;)Z" } : Jvm.MethodName) prog_16_method_2_code (2 : Nat) (Option.some Jvm.ClassFile.FieldType.boolean)) ∈ lw_all := lw_g (lw_at lw_m4 104 rfl) rfl
theorem q898 : (Jvm.Cond.methodLink "SpoonScales$Spoon" (18 : Nat) ({ cls := "SpoonScales", name := "spoon", desc := "(II)I" } : Jvm.MethodName)) ∈ lw_all := lw_g (lw_at lw_m4 105 rfl) rfl
theorem in_X18 : ∀ w ∈ wsX180, w ∈ lw_all := lw_in wsX180 [850, 852] (by decide +kernel) (by decide +kernel)

/-! SpoonScales$Sum -/
set_option maxRecDepth 100000
def RX19 : String := "SpoonScales$Sum"
abbrev cX19_bound : ByteArray := prog_17_method_2_code
def yX19_bound : MethodName := ⟨RX19, "bound", "(J)J"⟩
def dkwX19_bound_1 : List UInt8 := [20, 0, 5, 167, 0, 4, 31, 173]
abbrev dktX19_bound_1 : List UInt8 := dkwX19_bound_1 ++ []
def dkwX19_bound_0 : List UInt8 := [31, 20, 0, 3, 148, 158, 0, 9, 20, 0, 3, 167, 0, 18, 31, 20, 0, 5, 148, 156, 0, 9]
abbrev dktX19_bound_0 : List UInt8 := dkwX19_bound_0 ++ dktX19_bound_1
theorem dksX19_bound_0 : cX19_bound.data.toList.drop 0 = dktX19_bound_0 := by decide +kernel
theorem dksX19_bound_1 : cX19_bound.data.toList.drop 22 = dktX19_bound_1 := dk_seg dksX19_bound_0 22 rfl rfl
theorem dX19_bound_0 : decode cX19_bound 0 = .ok (.lload_n 1, 1) := dk_31 (dk_at dksX19_bound_0 0 rfl rfl)
theorem dX19_bound_1 : decode cX19_bound 1 = .ok (.ldc2_w 3, 3) := dk_20 0 3 (dk_at dksX19_bound_0 1 rfl rfl)
theorem dX19_bound_4 : decode cX19_bound 4 = .ok (.lcmp, 1) := dk_148 (dk_at dksX19_bound_0 4 rfl rfl)
theorem dX19_bound_5 : decode cX19_bound 5 = .ok (.ifCond .le 9, 3) := dk_158 0 9 (dk_at dksX19_bound_0 5 rfl rfl)
theorem dX19_bound_8 : decode cX19_bound 8 = .ok (.ldc2_w 3, 3) := dk_20 0 3 (dk_at dksX19_bound_0 8 rfl rfl)
theorem dX19_bound_11 : decode cX19_bound 11 = .ok (.goto 18, 3) := dk_167 0 18 (dk_at dksX19_bound_0 11 rfl rfl)
theorem dX19_bound_14 : decode cX19_bound 14 = .ok (.lload_n 1, 1) := dk_31 (dk_at dksX19_bound_0 14 rfl rfl)
theorem dX19_bound_15 : decode cX19_bound 15 = .ok (.ldc2_w 5, 3) := dk_20 0 5 (dk_at dksX19_bound_0 15 rfl rfl)
theorem dX19_bound_18 : decode cX19_bound 18 = .ok (.lcmp, 1) := dk_148 (dk_at dksX19_bound_0 18 rfl rfl)
theorem dX19_bound_19 : decode cX19_bound 19 = .ok (.ifCond .ge 9, 3) := dk_156 0 9 (dk_at dksX19_bound_0 19 rfl rfl)
theorem dX19_bound_22 : decode cX19_bound 22 = .ok (.ldc2_w 5, 3) := dk_20 0 5 (dk_at dksX19_bound_1 0 rfl rfl)
theorem dX19_bound_25 : decode cX19_bound 25 = .ok (.goto 4, 3) := dk_167 0 4 (dk_at dksX19_bound_1 3 rfl rfl)
theorem dX19_bound_28 : decode cX19_bound 28 = .ok (.lload_n 1, 1) := dk_31 (dk_at dksX19_bound_1 6 rfl rfl)
theorem dX19_bound_29 : decode cX19_bound 29 = .ok (.lreturn, 1) := dk_173 (dk_at dksX19_bound_1 7 rfl rfl)
theorem q334 : (Jvm.Cond.interfaceMethod "SpoonScales$Sum" "SpoonScales$Sum" "of" "(LSpoonScales$View;)J") ∈ lw_tbl := lw_at lw_m2 21 rfl
theorem q335 : (Jvm.Cond.declares ({ cls := "SpoonScales$Sum", name := "of", desc := "(LSpoonScales$View;)J" } : Jvm.MethodName)) ∈ lw_tbl := lw_at lw_m2 22 rfl
theorem q371 : (Jvm.Cond.declares ({ cls := "SpoonScales$Sum", name := "bound", desc := "(J)J" } : Jvm.MethodName)) ∈ lw_tbl := lw_at lw_m2 58 rfl
theorem q373 : (Jvm.Cond.instanceMethod ({ cls := "SpoonScales$Sum", name := "bound", desc := "(J)J" } : Jvm.MethodName)) ∈ lw_all := lw_g (lw_at lw_m2 60 rfl) rfl
theorem q374 : (Jvm.Cond.publicMethod ({ cls := "SpoonScales$Sum", name := "bound", desc := "(J)J" } : Jvm.MethodName)) ∈ lw_tbl := lw_at lw_m2 61 rfl
theorem q375 : (Jvm.Cond.code ({ cls := "SpoonScales$Sum", name := "bound", desc := "(J)J" } : Jvm.MethodName) prog_17_method_2_code (3 : Nat) (Option.some Jvm.ClassFile.FieldType.long)) ∈ lw_all := lw_g (lw_at lw_m2 62 rfl) rfl
theorem q376 : (Jvm.Cond.constantLong "SpoonScales$Sum" (3 : Nat) (1000000 : Int64)) ∈ lw_all := lw_g (lw_at lw_m2 63 rfl) rfl
theorem q377 : (Jvm.Cond.constantLong "SpoonScales$Sum" (5 : Nat) (-1000000 : Int64)) ∈ lw_all := lw_g (lw_at lw_m2 64 rfl) rfl
theorem q1555 : (Jvm.Cond.initialized "SpoonScales$Sum") ∈ lw_all := lw_g (lw_at lw_m7 42 rfl) rfl

/-! SpoonScales$Law -/
set_option maxRecDepth 100000
def RX2 : String := "SpoonScales$Law"
def TX2 : u_T := fun k => match k with
  | 0 => ("SpoonScales$Law", "sums", "[LSpoonScales$Sum;", true)
  | 1 => ("SpoonScales$Law", "guilty", "LSpoonScales$Ask;", false)
  | 2 => ("SpoonScales$Law", "lines", "[LSpoonScales$Line;", true)
  | _ => ("SpoonScales$Law", "clauses", "I", false)
def tyX2 : Nat → FieldType := fun k => match k with
  | 0 => .array (.object "SpoonScales$Sum")
  | 1 => .object "SpoonScales$Ask"
  | 2 => .array (.object "SpoonScales$Line")
  | _ => .int
abbrev wsX20 : List Cond := u_ws RX2 TX2 4
theorem nmX2 : ∀ a, a < 4 → ∀ b, b < 4 → a ≠ b → (TX2 a).2.1 ≠ (TX2 b).2.1 := by decide +kernel
theorem tyX2_ok : ∀ k, k < 4 → parseFieldDescriptor (TX2 k).2.2.1 = some (tyX2 k) := by decide +kernel
abbrev cX2_init : ByteArray := prog_9_method_1_code
def yX2_init : MethodName := ⟨RX2, "<init>", "()V"⟩
def dkwX2_init_0 : List UInt8 := [42, 183, 0, 3, 42, 5, 189, 0, 9, 181, 0, 11, 42, 16, 24, 189, 0, 17, 181, 0, 19, 177]
abbrev dktX2_init_0 : List UInt8 := dkwX2_init_0 ++ []
theorem dksX2_init_0 : cX2_init.data.toList.drop 0 = dktX2_init_0 := by decide +kernel
theorem dX2_init_0 : decode cX2_init 0 = .ok (.aload_n 0, 1) := dk_42 (dk_at dksX2_init_0 0 rfl rfl)
theorem dX2_init_1 : decode cX2_init 1 = .ok (.invokespecial 3, 3) := dk_183 0 3 (dk_at dksX2_init_0 1 rfl rfl)
theorem dX2_init_4 : decode cX2_init 4 = .ok (.aload_n 0, 1) := dk_42 (dk_at dksX2_init_0 4 rfl rfl)
theorem dX2_init_5 : decode cX2_init 5 = .ok (.iconst 2, 1) := dk_5 (dk_at dksX2_init_0 5 rfl rfl)
theorem dX2_init_6 : decode cX2_init 6 = .ok (.anewarray 9, 3) := dk_189 0 9 (dk_at dksX2_init_0 6 rfl rfl)
theorem dX2_init_9 : decode cX2_init 9 = .ok (.putfield 11, 3) := dk_181 0 11 (dk_at dksX2_init_0 9 rfl rfl)
theorem dX2_init_12 : decode cX2_init 12 = .ok (.aload_n 0, 1) := dk_42 (dk_at dksX2_init_0 12 rfl rfl)
theorem dX2_init_13 : decode cX2_init 13 = .ok (.bipush 24, 2) := dk_16 24 (dk_at dksX2_init_0 13 rfl rfl)
theorem dX2_init_15 : decode cX2_init 15 = .ok (.anewarray 17, 3) := dk_189 0 17 (dk_at dksX2_init_0 15 rfl rfl)
theorem dX2_init_18 : decode cX2_init 18 = .ok (.putfield 19, 3) := dk_181 0 19 (dk_at dksX2_init_0 18 rfl rfl)
theorem dX2_init_21 : decode cX2_init 21 = .ok (.return_, 1) := dk_177 (dk_at dksX2_init_0 21 rfl rfl)
theorem q76 : (Jvm.Cond.initialized "SpoonScales$Law") ∈ lw_all := lw_g (lw_at lw_m1 3 rfl) rfl
theorem q186 : (Jvm.Cond.instantiable "SpoonScales$Law" (4 : Nat)) ∈ lw_all := lw_g (lw_at lw_m1 113 rfl) rfl
theorem q188 : (Jvm.Cond.instanceMethod ({ cls := "SpoonScales$Law", name := "<init>", desc := "()V" } : Jvm.MethodName)) ∈ lw_all := lw_g (lw_at lw_m1 115 rfl) rfl
theorem q189 : (Jvm.Cond.code ({ cls := "SpoonScales$Law", name := "<init>", desc := "()V" } : Jvm.MethodName) prog_9_method_1_code (1 : Nat) (Option.none : Option Jvm.ClassFile.FieldType)) ∈ lw_all := lw_g (lw_at lw_m1 116 rfl) rfl
theorem q190 : (Jvm.Cond.methodLink "SpoonScales$Law" (3 : Nat) ({ cls := "java/lang/Object", name := "<init>", desc := "()V" } : Jvm.MethodName)) ∈ lw_all := lw_g (lw_at lw_m1 117 rfl) rfl
theorem q191 : (Jvm.Cond.classLink "SpoonScales$Law" (9 : Nat) "SpoonScales$Sum") ∈ lw_all := lw_g (lw_at lw_m1 118 rfl) rfl
theorem q193 : (Jvm.Cond.classLink "SpoonScales$Law" (17 : Nat) "SpoonScales$Line") ∈ lw_all := lw_g (lw_at lw_m1 120 rfl) rfl
theorem q195 : (Jvm.Cond.fieldLink "SpoonScales$Law" (11 : Nat) "SpoonScales$Law" "sums" "[LSpoonScales$Sum;") ∈ lw_all := lw_g (lw_at lw_m1 122 rfl) rfl
theorem q200 : (Jvm.Cond.fieldLink "SpoonScales$Law" (19 : Nat) "SpoonScales$Law" "lines" "[LSpoonScales$Line;") ∈ lw_all := lw_g (lw_at lw_m1 127 rfl) rfl
theorem q205 : (Jvm.Cond.laysFinal "SpoonScales$Law" "SpoonScales$Law" "sums" "[LSpoonScales$Sum;") ∈ lw_all := lw_g (lw_at lw_m1 132 rfl) rfl
theorem q206 : (Jvm.Cond.soleField "SpoonScales$Law" "sums") ∈ lw_all := lw_g (lw_at lw_m1 133 rfl) rfl
theorem q207 : (Jvm.Cond.lays "SpoonScales$Law" "SpoonScales$Law" "guilty" "LSpoonScales$Ask;") ∈ lw_all := lw_g (lw_at lw_m1 134 rfl) rfl
theorem q208 : (Jvm.Cond.soleField "SpoonScales$Law" "guilty") ∈ lw_all := lw_g (lw_at lw_m1 135 rfl) rfl
theorem q209 : (Jvm.Cond.laysFinal "SpoonScales$Law" "SpoonScales$Law" "lines" "[LSpoonScales$Line;") ∈ lw_all := lw_g (lw_at lw_m1 136 rfl) rfl
theorem q210 : (Jvm.Cond.soleField "SpoonScales$Law" "lines") ∈ lw_all := lw_g (lw_at lw_m1 137 rfl) rfl
theorem q211 : (Jvm.Cond.lays "SpoonScales$Law" "SpoonScales$Law" "clauses" "I") ∈ lw_all := lw_g (lw_at lw_m1 138 rfl) rfl
theorem q212 : (Jvm.Cond.soleField "SpoonScales$Law" "clauses") ∈ lw_all := lw_g (lw_at lw_m1 139 rfl) rfl
theorem q213 : (Jvm.Cond.superclass "SpoonScales$Law" "java/lang/Object") ∈ lw_all := lw_g (lw_at lw_m1 140 rfl) rfl
theorem in_X2 : ∀ w ∈ wsX20, w ∈ lw_all := lw_in wsX20 [205, 207, 209, 211] (by decide +kernel) (by decide +kernel)

/-! SpoonScales$View -/
set_option maxRecDepth 100000
def RX3 : String := "SpoonScales$View"
abbrev cX3_init : ByteArray := prog_19_method_1_code
def yX3_init : MethodName := ⟨RX3, "<init>", "()V"⟩
theorem dX3_init_0 : decode cX3_init 0 = .ok (.aload_n 0, 1) := by decide +kernel
theorem dX3_init_1 : decode cX3_init 1 = .ok (.invokespecial 1, 3) := by decide +kernel
theorem dX3_init_4 : decode cX3_init 4 = .ok (.return_, 1) := by decide +kernel
theorem q77 : (Jvm.Cond.initialized "SpoonScales$View") ∈ lw_all := lw_g (lw_at lw_m1 4 rfl) rfl
theorem q220 : (Jvm.Cond.instanceMethod ({ cls := "SpoonScales$View", name := "<init>", desc := "()V" } : Jvm.MethodName)) ∈ lw_all := lw_g (lw_at lw_m1 147 rfl) rfl
theorem q221 : (Jvm.Cond.code ({ cls := "SpoonScales$View", name := "<init>", desc := "()V" } : Jvm.MethodName) prog_19_method_1_code (1 : Nat) (Option.none : Option Jvm.ClassFile.FieldType)) ∈ lw_all := lw_g (lw_at lw_m1 148 rfl) rfl
theorem q222 : (Jvm.Cond.methodLink "SpoonScales$View" (1 : Nat) ({ cls := "java/lang/Object", name := "<init>", desc := "()V" } : Jvm.MethodName)) ∈ lw_all := lw_g (lw_at lw_m1 149 rfl) rfl
theorem q365 : (Jvm.Cond.declares ({ cls := "SpoonScales$View", name := "word", desc := "(I)I" } : Jvm.MethodName)) ∈ lw_tbl := lw_at lw_m2 52 rfl
theorem q366 : (Jvm.Cond.sameMethod "SpoonScales$View" "SpoonScales$View" "word" "(I)I") ∈ lw_all := lw_g (lw_at lw_m2 53 rfl) rfl

/-! SpoonScales$Moment -/
set_option maxRecDepth 100000
def RX4 : String := "SpoonScales$Moment"
def TX4 : u_T := fun k => match k with
  | _ => ("SpoonScales$Moment", "values", "[I", true)
def tyX4 : Nat → FieldType := fun k => match k with
  | _ => .array .int
abbrev wsX40 : List Cond := u_ws RX4 TX4 1
theorem nmX4 : ∀ a, a < 1 → ∀ b, b < 1 → a ≠ b → (TX4 a).2.1 ≠ (TX4 b).2.1 := by decide +kernel
theorem tyX4_ok : ∀ k, k < 1 → parseFieldDescriptor (TX4 k).2.2.1 = some (tyX4 k) := by decide +kernel
abbrev cX4_init : ByteArray := prog_12_method_1_code
def yX4_init : MethodName := ⟨RX4, "<init>", "()V"⟩
def dkwX4_init_0 : List UInt8 := [42, 183, 0, 1, 42, 16, 12, 188, 10, 181, 0, 7, 177]
abbrev dktX4_init_0 : List UInt8 := dkwX4_init_0 ++ []
theorem dksX4_init_0 : cX4_init.data.toList.drop 0 = dktX4_init_0 := by decide +kernel
theorem dX4_init_0 : decode cX4_init 0 = .ok (.aload_n 0, 1) := dk_42 (dk_at dksX4_init_0 0 rfl rfl)
theorem dX4_init_1 : decode cX4_init 1 = .ok (.invokespecial 1, 3) := dk_183 0 1 (dk_at dksX4_init_0 1 rfl rfl)
theorem dX4_init_4 : decode cX4_init 4 = .ok (.aload_n 0, 1) := dk_42 (dk_at dksX4_init_0 4 rfl rfl)
theorem dX4_init_5 : decode cX4_init 5 = .ok (.bipush 12, 2) := dk_16 12 (dk_at dksX4_init_0 5 rfl rfl)
theorem dX4_init_7 : decode cX4_init 7 = .ok (.newarray .int, 2) := dk_188_10 (dk_at dksX4_init_0 7 rfl rfl)
theorem dX4_init_9 : decode cX4_init 9 = .ok (.putfield 7, 3) := dk_181 0 7 (dk_at dksX4_init_0 9 rfl rfl)
theorem dX4_init_12 : decode cX4_init 12 = .ok (.return_, 1) := dk_177 (dk_at dksX4_init_0 12 rfl rfl)
abbrev cX4_word : ByteArray := prog_12_method_2_code
def yX4_word : MethodName := ⟨RX4, "word", "(I)I"⟩
def dkwX4_word_0 : List UInt8 := [42, 180, 0, 7, 27, 46, 172]
abbrev dktX4_word_0 : List UInt8 := dkwX4_word_0 ++ []
theorem dksX4_word_0 : cX4_word.data.toList.drop 0 = dktX4_word_0 := by decide +kernel
theorem dX4_word_0 : decode cX4_word 0 = .ok (.aload_n 0, 1) := dk_42 (dk_at dksX4_word_0 0 rfl rfl)
theorem dX4_word_1 : decode cX4_word 1 = .ok (.getfield 7, 3) := dk_180 0 7 (dk_at dksX4_word_0 1 rfl rfl)
theorem dX4_word_4 : decode cX4_word 4 = .ok (.iload_n 1, 1) := dk_27 (dk_at dksX4_word_0 4 rfl rfl)
theorem dX4_word_5 : decode cX4_word 5 = .ok (.iaload, 1) := dk_46 (dk_at dksX4_word_0 5 rfl rfl)
theorem dX4_word_6 : decode cX4_word 6 = .ok (.ireturn, 1) := dk_172 (dk_at dksX4_word_0 6 rfl rfl)
theorem q78 : (Jvm.Cond.initialized "SpoonScales$Moment") ∈ lw_all := lw_g (lw_at lw_m1 5 rfl) rfl
theorem q215 : (Jvm.Cond.instantiable "SpoonScales$Moment" (1 : Nat)) ∈ lw_all := lw_g (lw_at lw_m1 142 rfl) rfl
theorem q217 : (Jvm.Cond.instanceMethod ({ cls := "SpoonScales$Moment", name := "<init>", desc := "()V" } : Jvm.MethodName)) ∈ lw_all := lw_g (lw_at lw_m1 144 rfl) rfl
theorem q218 : (Jvm.Cond.code ({ cls := "SpoonScales$Moment", name := "<init>", desc := "()V" } : Jvm.MethodName) prog_12_method_1_code (1 : Nat) (Option.none : Option Jvm.ClassFile.FieldType)) ∈ lw_all := lw_g (lw_at lw_m1 145 rfl) rfl
theorem q219 : (Jvm.Cond.methodLinkNest "SpoonScales$Moment" (1 : Nat) ({ cls := "SpoonScales$View", name := "<init>", desc := "()V" } : Jvm.MethodName) "SpoonScales") ∈ lw_tbl := lw_at lw_m1 146 rfl
theorem q223 : (Jvm.Cond.fieldLink "SpoonScales$Moment" (7 : Nat) "SpoonScales$Moment" "values" "[I") ∈ lw_all := lw_g (lw_at lw_m1 150 rfl) rfl
theorem q225 : (Jvm.Cond.laysFinal "SpoonScales$Moment" "SpoonScales$Moment" "values" "[I") ∈ lw_all := lw_g (lw_at lw_m1 152 rfl) rfl
theorem q226 : (Jvm.Cond.soleField "SpoonScales$Moment" "values") ∈ lw_all := lw_g (lw_at lw_m1 153 rfl) rfl
theorem q227 : (Jvm.Cond.superclass "SpoonScales$Moment" "SpoonScales$View") ∈ lw_all := lw_g (lw_at lw_m1 154 rfl) rfl
theorem q367 : (Jvm.Cond.selects "SpoonScales$Moment" ({ cls := "SpoonScales$View", name := "word", desc := "(I)I" } : Jvm.MethodName) ({ cls := "SpoonScales$Moment", name := "word", desc := "(I)I" } : Jvm.MethodName)) ∈ lw_all := lw_g (lw_at lw_m2 54 rfl) rfl
theorem q368 : (Jvm.Cond.instanceMethod ({ cls := "SpoonScales$Moment", name := "word", desc := "(I)I" } : Jvm.MethodName)) ∈ lw_all := lw_g (lw_at lw_m2 55 rfl) rfl
theorem q369 : (Jvm.Cond.code ({ cls := "SpoonScales$Moment", name := "word", desc := "(I)I" } : Jvm.MethodName) prog_12_method_2_code (2 : Nat) (Option.some Jvm.ClassFile.FieldType.int)) ∈ lw_all := lw_g (lw_at lw_m2 56 rfl) rfl
theorem in_X4 : ∀ w ∈ wsX40, w ∈ lw_all := lw_in wsX40 [225] (by decide +kernel) (by decide +kernel)

/-! SpoonScales$Wrong -/
set_option maxRecDepth 100000
def RX7 : String := "SpoonScales$Wrong"
def TX7 : u_T := fun k => match k with
  | 0 => ("java/lang/Throwable", "cause", "Ljava/lang/Throwable;", false)
  | 1 => ("java/lang/Throwable", "stackTrace", "[Ljava/lang/StackTraceElement;", false)
  | 2 => ("java/lang/Throwable", "suppressedExceptions", "Ljava/util/List;", false)
  | 3 => ("java/lang/Throwable", "detailMessage", "Ljava/lang/String;", false)
  | 4 => ("java/lang/Throwable", "backtrace", "Ljava/lang/Object;", false)
  | 5 => ("java/lang/Throwable", "depth", "I", false)
  | 6 => ("SpoonScales$Wrong", "code", "I", true)
  | _ => ("SpoonScales$Wrong", "place", "I", true)
def tyX7 : Nat → FieldType := fun k => match k with
  | 0 => .object "java/lang/Throwable"
  | 1 => .array (.object "java/lang/StackTraceElement")
  | 2 => .object "java/util/List"
  | 3 => .object "java/lang/String"
  | 4 => .object "java/lang/Object"
  | 5 => .int
  | 6 => .int
  | _ => .int
abbrev wsX70 : List Cond := u_ws RX7 TX7 8
theorem nmX7 : ∀ a, a < 8 → ∀ b, b < 8 → a ≠ b → (TX7 a).2.1 ≠ (TX7 b).2.1 := by decide +kernel
theorem tyX7_ok : ∀ k, k < 8 → parseFieldDescriptor (TX7 k).2.2.1 = some (tyX7 k) := by decide +kernel
abbrev cX7_init : ByteArray := prog_21_method_1_code
def yX7_init : MethodName := ⟨RX7, "<init>", "(II)V"⟩
def dkwX7_init_0 : List UInt8 := [42, 1, 1, 3, 3, 183, 0, 1, 42, 27, 181, 0, 7, 42, 28, 181, 0, 13, 177]
abbrev dktX7_init_0 : List UInt8 := dkwX7_init_0 ++ []
theorem dksX7_init_0 : cX7_init.data.toList.drop 0 = dktX7_init_0 := by decide +kernel
theorem dX7_init_0 : decode cX7_init 0 = .ok (.aload_n 0, 1) := dk_42 (dk_at dksX7_init_0 0 rfl rfl)
theorem dX7_init_1 : decode cX7_init 1 = .ok (.aconst_null, 1) := dk_1 (dk_at dksX7_init_0 1 rfl rfl)
theorem dX7_init_2 : decode cX7_init 2 = .ok (.aconst_null, 1) := dk_1 (dk_at dksX7_init_0 2 rfl rfl)
theorem dX7_init_3 : decode cX7_init 3 = .ok (.iconst 0, 1) := dk_3 (dk_at dksX7_init_0 3 rfl rfl)
theorem dX7_init_4 : decode cX7_init 4 = .ok (.iconst 0, 1) := dk_3 (dk_at dksX7_init_0 4 rfl rfl)
theorem dX7_init_5 : decode cX7_init 5 = .ok (.invokespecial 1, 3) := dk_183 0 1 (dk_at dksX7_init_0 5 rfl rfl)
theorem dX7_init_8 : decode cX7_init 8 = .ok (.aload_n 0, 1) := dk_42 (dk_at dksX7_init_0 8 rfl rfl)
theorem dX7_init_9 : decode cX7_init 9 = .ok (.iload_n 1, 1) := dk_27 (dk_at dksX7_init_0 9 rfl rfl)
theorem dX7_init_10 : decode cX7_init 10 = .ok (.putfield 7, 3) := dk_181 0 7 (dk_at dksX7_init_0 10 rfl rfl)
theorem dX7_init_13 : decode cX7_init 13 = .ok (.aload_n 0, 1) := dk_42 (dk_at dksX7_init_0 13 rfl rfl)
theorem dX7_init_14 : decode cX7_init 14 = .ok (.iload_n 2, 1) := dk_28 (dk_at dksX7_init_0 14 rfl rfl)
theorem dX7_init_15 : decode cX7_init 15 = .ok (.putfield 13, 3) := dk_181 0 13 (dk_at dksX7_init_0 15 rfl rfl)
theorem dX7_init_18 : decode cX7_init 18 = .ok (.return_, 1) := dk_177 (dk_at dksX7_init_0 18 rfl rfl)
theorem q90 : (Jvm.Cond.initialized "SpoonScales$Wrong") ∈ lw_all := lw_g (lw_at lw_m1 17 rfl) rfl
theorem q603 : (Jvm.Cond.instantiable "SpoonScales$Wrong" (8 : Nat)) ∈ lw_all := lw_g (lw_at lw_m3 50 rfl) rfl
theorem q604 : (Jvm.Cond.castable "SpoonScales$Wrong" "SpoonScales$Wrong") ∈ lw_tbl := lw_at lw_m3 51 rfl
theorem q611 : (Jvm.Cond.selects "SpoonScales$Wrong" ({ cls := "java/lang/Throwable", name := "fillInStackTrace", desc := "(I)Ljava/lang/Throwable;" } : Jvm.MethodName) ({ cls := "java/lang/Throwable", name := "fillInStackTrace", desc := "(I)Ljava/lang/Throwable;" } : Jvm.MethodName)) ∈ lw_all := lw_g (lw_at lw_m3 58 rfl) rfl
theorem q612 : (Jvm.Cond.selects "SpoonScales$Wrong" ({ cls := "java/lang/Throwable", name := "fillInStackTrace", desc := "()Ljava/lang/Throwable;" } : Jvm.MethodName) ({ cls := "java/lang/Throwable", name := "fillInStackTrace", desc := "()Ljava/lang/Throwable;" } : Jvm.MethodName)) ∈ lw_all := lw_g (lw_at lw_m3 59 rfl) rfl
theorem q613 : (Jvm.Cond.lays "SpoonScales$Wrong" "java/lang/Throwable" "cause" "Ljava/lang/Throwable;") ∈ lw_all := lw_g (lw_at lw_m3 60 rfl) rfl
theorem q615 : (Jvm.Cond.lays "SpoonScales$Wrong" "java/lang/Throwable" "stackTrace" "[Ljava/lang/StackTraceElement;") ∈ lw_all := lw_g (lw_at lw_m3 62 rfl) rfl
theorem q617 : (Jvm.Cond.lays "SpoonScales$Wrong" "java/lang/Throwable" "suppressedExceptions" "Ljava/util/List;") ∈ lw_all := lw_g (lw_at lw_m3 64 rfl) rfl
theorem q619 : (Jvm.Cond.lays "SpoonScales$Wrong" "java/lang/Throwable" "detailMessage" "Ljava/lang/String;") ∈ lw_all := lw_g (lw_at lw_m3 66 rfl) rfl
theorem q621 : (Jvm.Cond.lays "SpoonScales$Wrong" "java/lang/Throwable" "backtrace" "Ljava/lang/Object;") ∈ lw_all := lw_g (lw_at lw_m3 68 rfl) rfl
theorem q642 : (Jvm.Cond.instanceMethod ({ cls := "SpoonScales$Wrong", name := "<init>", desc := "(II)V" } : Jvm.MethodName)) ∈ lw_all := lw_g (lw_at lw_m3 89 rfl) rfl
theorem q643 : (Jvm.Cond.code ({ cls := "SpoonScales$Wrong", name := "<init>", desc := "(II)V" } : Jvm.MethodName) prog_21_method_1_code (3 : Nat) (Option.none : Option Jvm.ClassFile.FieldType)) ∈ lw_all := lw_g (lw_at lw_m3 90 rfl) rfl
theorem q644 : (Jvm.Cond.methodLink "SpoonScales$Wrong" (1 : Nat) ({ cls := "java/lang/RuntimeException", name := "<init>", desc := "(Ljava/lang/String;Ljava/lang/Throwable;ZZ)V" } : Jvm.MethodName)) ∈ lw_all := lw_g (lw_at lw_m3 91 rfl) rfl
theorem q653 : (Jvm.Cond.fieldLink "SpoonScales$Wrong" (7 : Nat) "SpoonScales$Wrong" "code" "I") ∈ lw_all := lw_g (lw_at lw_m3 100 rfl) rfl
theorem q655 : (Jvm.Cond.fieldLink "SpoonScales$Wrong" (13 : Nat) "SpoonScales$Wrong" "place" "I") ∈ lw_all := lw_g (lw_at lw_m3 102 rfl) rfl
theorem q662 : (Jvm.Cond.laysFinal "SpoonScales$Wrong" "SpoonScales$Wrong" "code" "I") ∈ lw_all := lw_g (lw_at lw_m3 109 rfl) rfl
theorem q663 : (Jvm.Cond.soleField "SpoonScales$Wrong" "code") ∈ lw_all := lw_g (lw_at lw_m3 110 rfl) rfl
theorem q664 : (Jvm.Cond.laysFinal "SpoonScales$Wrong" "SpoonScales$Wrong" "place" "I") ∈ lw_all := lw_g (lw_at lw_m3 111 rfl) rfl
theorem q665 : (Jvm.Cond.soleField "SpoonScales$Wrong" "place") ∈ lw_all := lw_g (lw_at lw_m3 112 rfl) rfl
theorem q670 : (Jvm.Cond.lays "SpoonScales$Wrong" "java/lang/Throwable" "depth" "I") ∈ lw_all := lw_g (lw_at lw_m3 117 rfl) rfl
theorem q673 : (Jvm.Cond.superclass "SpoonScales$Wrong" "java/lang/RuntimeException") ∈ lw_all := lw_g (lw_at lw_m3 120 rfl) rfl
theorem in_X7 : ∀ w ∈ wsX70, w ∈ lw_all := lw_in wsX70 [613, 615, 617, 619, 621, 670, 662, 664] (by decide +kernel) (by decide +kernel)

/-! SpoonScales$Word -/
set_option maxRecDepth 100000
def RX8 : String := "SpoonScales$Word"
def TX8 : u_T := fun k => match k with
  | _ => ("SpoonScales$Word", "word", "I", true)
def tyX8 : Nat → FieldType := fun k => match k with
  | _ => .int
abbrev wsX80 : List Cond := u_ws RX8 TX8 1
theorem nmX8 : ∀ a, a < 1 → ∀ b, b < 1 → a ≠ b → (TX8 a).2.1 ≠ (TX8 b).2.1 := by decide +kernel
theorem tyX8_ok : ∀ k, k < 1 → parseFieldDescriptor (TX8 k).2.2.1 = some (tyX8 k) := by decide +kernel
abbrev cX8_of : ByteArray := prog_20_method_2_code
def yX8_of : MethodName := ⟨RX8, "of", "(LSpoonScales$View;)J"⟩
def dkwX8_of_0 : List UInt8 := [43, 42, 180, 0, 7, 182, 0, 13, 133, 173]
abbrev dktX8_of_0 : List UInt8 := dkwX8_of_0 ++ []
theorem dksX8_of_0 : cX8_of.data.toList.drop 0 = dktX8_of_0 := by decide +kernel
theorem dX8_of_0 : decode cX8_of 0 = .ok (.aload_n 1, 1) := dk_43 (dk_at dksX8_of_0 0 rfl rfl)
theorem dX8_of_1 : decode cX8_of 1 = .ok (.aload_n 0, 1) := dk_42 (dk_at dksX8_of_0 1 rfl rfl)
theorem dX8_of_2 : decode cX8_of 2 = .ok (.getfield 7, 3) := dk_180 0 7 (dk_at dksX8_of_0 2 rfl rfl)
theorem dX8_of_5 : decode cX8_of 5 = .ok (.invokevirtual 13, 3) := dk_182 0 13 (dk_at dksX8_of_0 5 rfl rfl)
theorem dX8_of_8 : decode cX8_of 8 = .ok (.i2l, 1) := dk_133 (dk_at dksX8_of_0 8 rfl rfl)
theorem dX8_of_9 : decode cX8_of 9 = .ok (.lreturn, 1) := dk_173 (dk_at dksX8_of_0 9 rfl rfl)
abbrev cX8_init : ByteArray := prog_20_method_1_code
def yX8_init : MethodName := ⟨RX8, "<init>", "(I)V"⟩
def dkwX8_init_0 : List UInt8 := [42, 183, 0, 1, 42, 27, 181, 0, 7, 177]
abbrev dktX8_init_0 : List UInt8 := dkwX8_init_0 ++ []
theorem dksX8_init_0 : cX8_init.data.toList.drop 0 = dktX8_init_0 := by decide +kernel
theorem dX8_init_0 : decode cX8_init 0 = .ok (.aload_n 0, 1) := dk_42 (dk_at dksX8_init_0 0 rfl rfl)
theorem dX8_init_1 : decode cX8_init 1 = .ok (.invokespecial 1, 3) := dk_183 0 1 (dk_at dksX8_init_0 1 rfl rfl)
theorem dX8_init_4 : decode cX8_init 4 = .ok (.aload_n 0, 1) := dk_42 (dk_at dksX8_init_0 4 rfl rfl)
theorem dX8_init_5 : decode cX8_init 5 = .ok (.iload_n 1, 1) := dk_27 (dk_at dksX8_init_0 5 rfl rfl)
theorem dX8_init_6 : decode cX8_init 6 = .ok (.putfield 7, 3) := dk_181 0 7 (dk_at dksX8_init_0 6 rfl rfl)
theorem dX8_init_9 : decode cX8_init 9 = .ok (.return_, 1) := dk_177 (dk_at dksX8_init_0 9 rfl rfl)
theorem q91 : (Jvm.Cond.initialized "SpoonScales$Word") ∈ lw_all := lw_g (lw_at lw_m1 18 rfl) rfl
theorem q358 : (Jvm.Cond.castable "SpoonScales$Word" "SpoonScales$Sum") ∈ lw_tbl := lw_at lw_m2 45 rfl
theorem q359 : (Jvm.Cond.selects "SpoonScales$Word" ({ cls := "SpoonScales$Sum", name := "of", desc := "(LSpoonScales$View;)J" } : Jvm.MethodName) ({ cls := "SpoonScales$Word", name := "of", desc := "(LSpoonScales$View;)J" } : Jvm.MethodName)) ∈ lw_all := lw_g (lw_at lw_m2 46 rfl) rfl
theorem q360 : (Jvm.Cond.unhidden "SpoonScales$Word" "of" "(LSpoonScales$View;)J") ∈ lw_tbl := lw_at lw_m2 47 rfl
theorem q361 : (Jvm.Cond.instanceMethod ({ cls := "SpoonScales$Word", name := "of", desc := "(LSpoonScales$View;)J" } : Jvm.MethodName)) ∈ lw_all := lw_g (lw_at lw_m2 48 rfl) rfl
theorem q362 : (Jvm.Cond.publicMethod ({ cls := "SpoonScales$Word", name := "of", desc := "(LSpoonScales$View;)J" } : Jvm.MethodName)) ∈ lw_tbl := lw_at lw_m2 49 rfl
theorem q363 : (Jvm.Cond.code ({ cls := "SpoonScales$Word", name := "of", desc := "(LSpoonScales$View;)J" } : Jvm.MethodName) prog_20_method_2_code (2 : Nat) (Option.some Jvm.ClassFile.FieldType.long)) ∈ lw_all := lw_g (lw_at lw_m2 50 rfl) rfl
theorem q364 : (Jvm.Cond.methodLink "SpoonScales$Word" (13 : Nat) ({ cls := "SpoonScales$View", name := "word", desc := "(I)I" } : Jvm.MethodName)) ∈ lw_all := lw_g (lw_at lw_m2 51 rfl) rfl
theorem q691 : (Jvm.Cond.instantiable "SpoonScales$Word" (1 : Nat)) ∈ lw_all := lw_g (lw_at lw_m3 138 rfl) rfl
theorem q693 : (Jvm.Cond.instanceMethod ({ cls := "SpoonScales$Word", name := "<init>", desc := "(I)V" } : Jvm.MethodName)) ∈ lw_all := lw_g (lw_at lw_m3 140 rfl) rfl
theorem q694 : (Jvm.Cond.code ({ cls := "SpoonScales$Word", name := "<init>", desc := "(I)V" } : Jvm.MethodName) prog_20_method_1_code (2 : Nat) (Option.none : Option Jvm.ClassFile.FieldType)) ∈ lw_all := lw_g (lw_at lw_m3 141 rfl) rfl
theorem q695 : (Jvm.Cond.methodLink "SpoonScales$Word" (1 : Nat) ({ cls := "java/lang/Object", name := "<init>", desc := "()V" } : Jvm.MethodName)) ∈ lw_all := lw_g (lw_at lw_m3 142 rfl) rfl
theorem q696 : (Jvm.Cond.fieldLink "SpoonScales$Word" (7 : Nat) "SpoonScales$Word" "word" "I") ∈ lw_all := lw_g (lw_at lw_m3 143 rfl) rfl
theorem q697 : (Jvm.Cond.laysFinal "SpoonScales$Word" "SpoonScales$Word" "word" "I") ∈ lw_all := lw_g (lw_at lw_m3 144 rfl) rfl
theorem q698 : (Jvm.Cond.soleField "SpoonScales$Word" "word") ∈ lw_all := lw_g (lw_at lw_m3 145 rfl) rfl
theorem q699 : (Jvm.Cond.superclass "SpoonScales$Word" "java/lang/Object") ∈ lw_all := lw_g (lw_at lw_m3 146 rfl) rfl
theorem in_X8 : ∀ w ∈ wsX80, w ∈ lw_all := lw_in wsX80 [697] (by decide +kernel) (by decide +kernel)

/-! SpoonScales$Constant -/
set_option maxRecDepth 100000
def RX9 : String := "SpoonScales$Constant"
def TX9 : u_T := fun k => match k with
  | _ => ("SpoonScales$Constant", "v", "I", true)
def tyX9 : Nat → FieldType := fun k => match k with
  | _ => .int
abbrev wsX90 : List Cond := u_ws RX9 TX9 1
theorem nmX9 : ∀ a, a < 1 → ∀ b, b < 1 → a ≠ b → (TX9 a).2.1 ≠ (TX9 b).2.1 := by decide +kernel
theorem tyX9_ok : ∀ k, k < 1 → parseFieldDescriptor (TX9 k).2.2.1 = some (tyX9 k) := by decide +kernel
abbrev cX9_of : ByteArray := prog_5_method_2_code
def yX9_of : MethodName := ⟨RX9, "of", "(LSpoonScales$View;)J"⟩
def dkwX9_of_0 : List UInt8 := [42, 180, 0, 7, 133, 173]
abbrev dktX9_of_0 : List UInt8 := dkwX9_of_0 ++ []
theorem dksX9_of_0 : cX9_of.data.toList.drop 0 = dktX9_of_0 := by decide +kernel
theorem dX9_of_0 : decode cX9_of 0 = .ok (.aload_n 0, 1) := dk_42 (dk_at dksX9_of_0 0 rfl rfl)
theorem dX9_of_1 : decode cX9_of 1 = .ok (.getfield 7, 3) := dk_180 0 7 (dk_at dksX9_of_0 1 rfl rfl)
theorem dX9_of_4 : decode cX9_of 4 = .ok (.i2l, 1) := dk_133 (dk_at dksX9_of_0 4 rfl rfl)
theorem dX9_of_5 : decode cX9_of 5 = .ok (.lreturn, 1) := dk_173 (dk_at dksX9_of_0 5 rfl rfl)
abbrev cX9_init : ByteArray := prog_5_method_1_code
def yX9_init : MethodName := ⟨RX9, "<init>", "(I)V"⟩
def dkwX9_init_0 : List UInt8 := [42, 183, 0, 1, 42, 27, 181, 0, 7, 177]
abbrev dktX9_init_0 : List UInt8 := dkwX9_init_0 ++ []
theorem dksX9_init_0 : cX9_init.data.toList.drop 0 = dktX9_init_0 := by decide +kernel
theorem dX9_init_0 : decode cX9_init 0 = .ok (.aload_n 0, 1) := dk_42 (dk_at dksX9_init_0 0 rfl rfl)
theorem dX9_init_1 : decode cX9_init 1 = .ok (.invokespecial 1, 3) := dk_183 0 1 (dk_at dksX9_init_0 1 rfl rfl)
theorem dX9_init_4 : decode cX9_init 4 = .ok (.aload_n 0, 1) := dk_42 (dk_at dksX9_init_0 4 rfl rfl)
theorem dX9_init_5 : decode cX9_init 5 = .ok (.iload_n 1, 1) := dk_27 (dk_at dksX9_init_0 5 rfl rfl)
theorem dX9_init_6 : decode cX9_init 6 = .ok (.putfield 7, 3) := dk_181 0 7 (dk_at dksX9_init_0 6 rfl rfl)
theorem dX9_init_9 : decode cX9_init 9 = .ok (.return_, 1) := dk_177 (dk_at dksX9_init_0 9 rfl rfl)
theorem q92 : (Jvm.Cond.initialized "SpoonScales$Constant") ∈ lw_all := lw_g (lw_at lw_m1 19 rfl) rfl
theorem q336 : (Jvm.Cond.castable "SpoonScales$Constant" "SpoonScales$Sum") ∈ lw_tbl := lw_at lw_m2 23 rfl
theorem q337 : (Jvm.Cond.selects "SpoonScales$Constant" ({ cls := "SpoonScales$Sum", name := "of", desc := "(LSpoonScales$View;)J" } : Jvm.MethodName) ({ cls := "SpoonScales$Constant", name := "of", desc := "(LSpoonScales$View;)J" } : Jvm.MethodName)) ∈ lw_all := lw_g (lw_at lw_m2 24 rfl) rfl
theorem q338 : (Jvm.Cond.unhidden "SpoonScales$Constant" "of" "(LSpoonScales$View;)J") ∈ lw_tbl := lw_at lw_m2 25 rfl
theorem q339 : (Jvm.Cond.instanceMethod ({ cls := "SpoonScales$Constant", name := "of", desc := "(LSpoonScales$View;)J" } : Jvm.MethodName)) ∈ lw_all := lw_g (lw_at lw_m2 26 rfl) rfl
theorem q340 : (Jvm.Cond.publicMethod ({ cls := "SpoonScales$Constant", name := "of", desc := "(LSpoonScales$View;)J" } : Jvm.MethodName)) ∈ lw_tbl := lw_at lw_m2 27 rfl
theorem q341 : (Jvm.Cond.code ({ cls := "SpoonScales$Constant", name := "of", desc := "(LSpoonScales$View;)J" } : Jvm.MethodName) prog_5_method_2_code (2 : Nat) (Option.some Jvm.ClassFile.FieldType.long)) ∈ lw_all := lw_g (lw_at lw_m2 28 rfl) rfl
theorem q701 : (Jvm.Cond.instantiable "SpoonScales$Constant" (1 : Nat)) ∈ lw_all := lw_g (lw_at lw_m3 148 rfl) rfl
theorem q707 : (Jvm.Cond.instanceMethod ({ cls := "SpoonScales$Constant", name := "<init>", desc := "(I)V" } : Jvm.MethodName)) ∈ lw_all := lw_g (lw_at lw_m3 154 rfl) rfl
theorem q708 : (Jvm.Cond.code ({ cls := "SpoonScales$Constant", name := "<init>", desc := "(I)V" } : Jvm.MethodName) prog_5_method_1_code (2 : Nat) (Option.none : Option Jvm.ClassFile.FieldType)) ∈ lw_all := lw_g (lw_at lw_m3 155 rfl) rfl
theorem q709 : (Jvm.Cond.methodLink "SpoonScales$Constant" (1 : Nat) ({ cls := "java/lang/Object", name := "<init>", desc := "()V" } : Jvm.MethodName)) ∈ lw_all := lw_g (lw_at lw_m3 156 rfl) rfl
theorem q710 : (Jvm.Cond.fieldLink "SpoonScales$Constant" (7 : Nat) "SpoonScales$Constant" "v" "I") ∈ lw_all := lw_g (lw_at lw_m3 157 rfl) rfl
theorem q711 : (Jvm.Cond.laysFinal "SpoonScales$Constant" "SpoonScales$Constant" "v" "I") ∈ lw_all := lw_g (lw_at lw_m3 158 rfl) rfl
theorem q712 : (Jvm.Cond.soleField "SpoonScales$Constant" "v") ∈ lw_all := lw_g (lw_at lw_m3 159 rfl) rfl
theorem q713 : (Jvm.Cond.superclass "SpoonScales$Constant" "java/lang/Object") ∈ lw_all := lw_g (lw_at lw_m3 160 rfl) rfl
theorem in_X9 : ∀ w ∈ wsX90, w ∈ lw_all := lw_in wsX90 [711] (by decide +kernel) (by decide +kernel)

theorem q73 : (Jvm.Cond.initialized "SpoonScalesLaw") ∈ lw_all := lw_g (lw_at lw_m1 0 rfl) rfl
set_option maxRecDepth 100000
theorem q104 : (Jvm.Cond.classLink "SpoonScalesLaw" (7 : Nat) "SpoonScales") ∈ lw_all := lw_g (lw_at lw_m1 31 rfl) rfl
theorem q106 : (Jvm.Cond.methodLink "SpoonScalesLaw" (9 : Nat) ({ cls := "SpoonScales", name := "<init>", desc := "()V" } : Jvm.MethodName)) ∈ lw_all := lw_g (lw_at lw_m1 33 rfl) rfl
theorem q273 : (Jvm.Cond.methodLink "SpoonScalesLaw" (13 : Nat) ({ cls := "SpoonScales", name := "pot", desc := "(III)Z" } : Jvm.MethodName)) ∈ lw_all := lw_g (lw_at lw_m1 200 rfl) rfl
theorem q286 : (Jvm.Cond.methodLink "SpoonScalesLaw" (18 : Nat) ({ cls := "SpoonScales", name := "eater", desc := "(III)I" } : Jvm.MethodName)) ∈ lw_all := lw_g (lw_at lw_m1 213 rfl) rfl
theorem q290 : (Jvm.Cond.methodLink "SpoonScalesLaw" (23 : Nat) ({ cls := "SpoonScales", name := "seed", desc := "(I)Z" } : Jvm.MethodName)) ∈ lw_all := lw_g (lw_at lw_m1 217 rfl) rfl
theorem q294 : (Jvm.Cond.methodLink "SpoonScalesLaw" (28 : Nat) ({ cls := "SpoonScales", name := "sit", desc := "(II)Z" } : Jvm.MethodName)) ∈ lw_all := lw_g (lw_at lw_m1 221 rfl) rfl
theorem q312 : (Jvm.Cond.methodLink "SpoonScalesLaw" (33 : Nat) ({ cls := "SpoonScales", name := "spoon", desc := "(II)I" } : Jvm.MethodName)) ∈ lw_all := lw_g (lw_at lw_m1 239 rfl) rfl
theorem q398 : (Jvm.Cond.methodLink "SpoonScalesLaw" (38 : Nat) ({ cls := "SpoonScales", name := "judge", desc := "(I)I" } : Jvm.MethodName)) ∈ lw_all := lw_g (lw_at lw_m2 85 rfl) rfl
theorem q437 : (Jvm.Cond.methodLink "SpoonScalesLaw" (43 : Nat) ({ cls := "SpoonScales", name := "flies", desc := "(I)I" } : Jvm.MethodName)) ∈ lw_all := lw_g (lw_at lw_m2 124 rfl) rfl
theorem q448 : (Jvm.Cond.methodLink "SpoonScalesLaw" (73 : Nat) ({ cls := "SpoonScales", name := "undo", desc := "()I" } : Jvm.MethodName)) ∈ lw_all := lw_g (lw_at lw_m2 135 rfl) rfl
theorem q456 : (Jvm.Cond.methodLink "SpoonScalesLaw" (47 : Nat) ({ cls := "SpoonScales", name := "feed", desc := "(IIIII)I" } : Jvm.MethodName)) ∈ lw_all := lw_g (lw_at lw_m2 143 rfl) rfl
theorem q464 : (Jvm.Cond.methodLink "SpoonScalesLaw" (52 : Nat) ({ cls := "SpoonScales", name := "end", desc := "(I)I" } : Jvm.MethodName)) ∈ lw_all := lw_g (lw_at lw_m2 151 rfl) rfl
theorem q468 : (Jvm.Cond.methodLink "SpoonScalesLaw" (56 : Nat) ({ cls := "SpoonScales", name := "text", desc := "()I" } : Jvm.MethodName)) ∈ lw_all := lw_g (lw_at lw_m2 155 rfl) rfl
theorem q855 : (Jvm.Cond.methodLink "SpoonScalesLaw" (61 : Nat) ({ cls := "SpoonScales", name := "fault", desc := "(I)I" } : Jvm.MethodName)) ∈ lw_all := lw_g (lw_at lw_m4 62 rfl) rfl
theorem q859 : (Jvm.Cond.methodLink "SpoonScalesLaw" (65 : Nat) ({ cls := "SpoonScales", name := "by", desc := "(I)Z" } : Jvm.MethodName)) ∈ lw_all := lw_g (lw_at lw_m4 66 rfl) rfl
theorem q863 : (Jvm.Cond.methodLink "SpoonScalesLaw" (69 : Nat) ({ cls := "SpoonScales", name := "played", desc := "(I)I" } : Jvm.MethodName)) ∈ lw_all := lw_g (lw_at lw_m4 70 rfl) rfl
theorem q899 : (Jvm.Cond.methodLink "SpoonScalesLaw" (77 : Nat) ({ cls := "SpoonScales", name := "of", desc := "(II)I" } : Jvm.MethodName)) ∈ lw_all := lw_g (lw_at lw_m4 106 rfl) rfl
theorem q903 : (Jvm.Cond.methodLink "SpoonScalesLaw" (81 : Nat) ({ cls := "SpoonScales", name := "written", desc := "(II)I" } : Jvm.MethodName)) ∈ lw_all := lw_g (lw_at lw_m4 110 rfl) rfl
theorem q907 : (Jvm.Cond.methodLink "SpoonScalesLaw" (85 : Nat) ({ cls := "SpoonScales", name := "dent", desc := "(II)I" } : Jvm.MethodName)) ∈ lw_all := lw_g (lw_at lw_m4 114 rfl) rfl
theorem q911 : (Jvm.Cond.methodLink "SpoonScalesLaw" (89 : Nat) ({ cls := "SpoonScales", name := "called", desc := "(III)I" } : Jvm.MethodName)) ∈ lw_all := lw_g (lw_at lw_m4 118 rfl) rfl
theorem q934 : (Jvm.Cond.methodLink "SpoonScalesLaw" (93 : Nat) ({ cls := "SpoonScales", name := "acquitted", desc := "(II)I" } : Jvm.MethodName)) ∈ lw_all := lw_g (lw_at lw_m4 141 rfl) rfl
theorem q942 : (Jvm.Cond.methodLink "SpoonScalesLaw" (97 : Nat) ({ cls := "SpoonScales", name := "sets", desc := "(IIII)I" } : Jvm.MethodName)) ∈ lw_all := lw_g (lw_at lw_m4 149 rfl) rfl
theorem q950 : (Jvm.Cond.methodLink "SpoonScalesLaw" (102 : Nat) ({ cls := "SpoonScales", name := "tested", desc := "(II)I" } : Jvm.MethodName)) ∈ lw_all := lw_g (lw_at lw_m4 157 rfl) rfl
theorem q954 : (Jvm.Cond.methodLink "SpoonScalesLaw" (106 : Nat) ({ cls := "SpoonScales", name := "fits", desc := "()I" } : Jvm.MethodName)) ∈ lw_all := lw_g (lw_at lw_m4 161 rfl) rfl
theorem q968 : (Jvm.Cond.methodLink "SpoonScalesLaw" (110 : Nat) ({ cls := "SpoonScales", name := "next", desc := "()I" } : Jvm.MethodName)) ∈ lw_all := lw_g (lw_at lw_m4 175 rfl) rfl
theorem q973 : (Jvm.Cond.methodLink "SpoonScalesLaw" (114 : Nat) ({ cls := "SpoonScales", name := "hired", desc := "(I)I" } : Jvm.MethodName)) ∈ lw_all := lw_g (lw_at lw_m4 180 rfl) rfl
theorem q977 : (Jvm.Cond.methodLink "SpoonScalesLaw" (118 : Nat) ({ cls := "SpoonScales", name := "contrary", desc := "()I" } : Jvm.MethodName)) ∈ lw_all := lw_g (lw_at lw_m4 184 rfl) rfl
theorem q981 : (Jvm.Cond.methodLink "SpoonScalesLaw" (122 : Nat) ({ cls := "SpoonScales", name := "odds", desc := "(IIZ)J" } : Jvm.MethodName)) ∈ lw_all := lw_g (lw_at lw_m4 188 rfl) rfl
theorem q1004 : (Jvm.Cond.methodLink "SpoonScalesLaw" (127 : Nat) ({ cls := "SpoonScales", name := "tell", desc := "(II)I" } : Jvm.MethodName)) ∈ lw_all := lw_g (lw_at lw_m4 211 rfl) rfl
theorem q1008 : (Jvm.Cond.methodLink "SpoonScalesLaw" (131 : Nat) ({ cls := "SpoonScales", name := "liars", desc := "()I" } : Jvm.MethodName)) ∈ lw_all := lw_g (lw_at lw_m4 215 rfl) rfl
theorem q1016 : (Jvm.Cond.methodLink "SpoonScalesLaw" (135 : Nat) ({ cls := "SpoonScales", name := "inWhoseName", desc := "(I)I" } : Jvm.MethodName)) ∈ lw_all := lw_g (lw_at lw_m4 223 rfl) rfl
theorem q1020 : (Jvm.Cond.methodLink "SpoonScalesLaw" (139 : Nat) ({ cls := "SpoonScales", name := "image", desc := "()I" } : Jvm.MethodName)) ∈ lw_all := lw_g (lw_at lw_m4 227 rfl) rfl
theorem q1031 : (Jvm.Cond.methodLink "SpoonScalesLaw" (143 : Nat) ({ cls := "SpoonScales", name := "back", desc := "()I" } : Jvm.MethodName)) ∈ lw_all := lw_g (lw_at lw_m4 238 rfl) rfl
theorem q1035 : (Jvm.Cond.methodLink "SpoonScalesLaw" (147 : Nat) ({ cls := "SpoonScales", name := "about", desc := "(I)I" } : Jvm.MethodName)) ∈ lw_all := lw_g (lw_at lw_m5 2 rfl) rfl
theorem q1039 : (Jvm.Cond.classLink "SpoonScalesLaw" (10 : Nat) "SpoonScalesModel") ∈ lw_all := lw_g (lw_at lw_m5 6 rfl) rfl
theorem q1041 : (Jvm.Cond.methodLink "SpoonScalesLaw" (12 : Nat) ({ cls := "SpoonScalesModel", name := "<init>", desc := "()V" } : Jvm.MethodName)) ∈ lw_all := lw_g (lw_at lw_m5 8 rfl) rfl
theorem q1195 : (Jvm.Cond.methodLink "SpoonScalesLaw" (17 : Nat) ({ cls := "SpoonScalesModel", name := "pot", desc := "(III)Z" } : Jvm.MethodName)) ∈ lw_all := lw_g (lw_at lw_m5 162 rfl) rfl
theorem q1205 : (Jvm.Cond.methodLink "SpoonScalesLaw" (22 : Nat) ({ cls := "SpoonScalesModel", name := "eater", desc := "(III)I" } : Jvm.MethodName)) ∈ lw_all := lw_g (lw_at lw_m5 172 rfl) rfl
theorem q1209 : (Jvm.Cond.methodLink "SpoonScalesLaw" (27 : Nat) ({ cls := "SpoonScalesModel", name := "seed", desc := "(I)Z" } : Jvm.MethodName)) ∈ lw_all := lw_g (lw_at lw_m5 176 rfl) rfl
theorem q1213 : (Jvm.Cond.methodLink "SpoonScalesLaw" (76 : Nat) ({ cls := "SpoonScalesModel", name := "undo", desc := "()I" } : Jvm.MethodName)) ∈ lw_all := lw_g (lw_at lw_m5 180 rfl) rfl
theorem q1217 : (Jvm.Cond.methodLink "SpoonScalesLaw" (51 : Nat) ({ cls := "SpoonScalesModel", name := "feed", desc := "(IIIII)I" } : Jvm.MethodName)) ∈ lw_all := lw_g (lw_at lw_m5 184 rfl) rfl
theorem q1225 : (Jvm.Cond.methodLink "SpoonScalesLaw" (55 : Nat) ({ cls := "SpoonScalesModel", name := "end", desc := "(I)I" } : Jvm.MethodName)) ∈ lw_all := lw_g (lw_at lw_m5 192 rfl) rfl
theorem q1229 : (Jvm.Cond.methodLink "SpoonScalesLaw" (60 : Nat) ({ cls := "SpoonScalesModel", name := "text", desc := "()I" } : Jvm.MethodName)) ∈ lw_all := lw_g (lw_at lw_m5 196 rfl) rfl
theorem q1358 : (Jvm.Cond.methodLink "SpoonScalesLaw" (64 : Nat) ({ cls := "SpoonScalesModel", name := "fault", desc := "(I)I" } : Jvm.MethodName)) ∈ lw_all := lw_g (lw_at lw_m6 85 rfl) rfl
theorem q1362 : (Jvm.Cond.methodLink "SpoonScalesLaw" (68 : Nat) ({ cls := "SpoonScalesModel", name := "by", desc := "(I)Z" } : Jvm.MethodName)) ∈ lw_all := lw_g (lw_at lw_m6 89 rfl) rfl
theorem q1366 : (Jvm.Cond.methodLink "SpoonScalesLaw" (32 : Nat) ({ cls := "SpoonScalesModel", name := "sit", desc := "(II)Z" } : Jvm.MethodName)) ∈ lw_all := lw_g (lw_at lw_m6 93 rfl) rfl
theorem q1378 : (Jvm.Cond.methodLink "SpoonScalesLaw" (37 : Nat) ({ cls := "SpoonScalesModel", name := "spoon", desc := "(II)I" } : Jvm.MethodName)) ∈ lw_all := lw_g (lw_at lw_m6 105 rfl) rfl
theorem q1420 : (Jvm.Cond.methodLink "SpoonScalesLaw" (42 : Nat) ({ cls := "SpoonScalesModel", name := "judge", desc := "(I)I" } : Jvm.MethodName)) ∈ lw_all := lw_g (lw_at lw_m6 147 rfl) rfl
theorem q1432 : (Jvm.Cond.methodLink "SpoonScalesLaw" (46 : Nat) ({ cls := "SpoonScalesModel", name := "flies", desc := "(I)I" } : Jvm.MethodName)) ∈ lw_all := lw_g (lw_at lw_m6 159 rfl) rfl
theorem q1440 : (Jvm.Cond.methodLink "SpoonScalesLaw" (72 : Nat) ({ cls := "SpoonScalesModel", name := "played", desc := "(I)I" } : Jvm.MethodName)) ∈ lw_all := lw_g (lw_at lw_m6 167 rfl) rfl
theorem q1448 : (Jvm.Cond.methodLink "SpoonScalesLaw" (80 : Nat) ({ cls := "SpoonScalesModel", name := "of", desc := "(II)I" } : Jvm.MethodName)) ∈ lw_all := lw_g (lw_at lw_m6 175 rfl) rfl
theorem q1452 : (Jvm.Cond.methodLink "SpoonScalesLaw" (84 : Nat) ({ cls := "SpoonScalesModel", name := "written", desc := "(II)I" } : Jvm.MethodName)) ∈ lw_all := lw_g (lw_at lw_m6 179 rfl) rfl
theorem q1456 : (Jvm.Cond.methodLink "SpoonScalesLaw" (88 : Nat) ({ cls := "SpoonScalesModel", name := "dent", desc := "(II)I" } : Jvm.MethodName)) ∈ lw_all := lw_g (lw_at lw_m6 183 rfl) rfl
theorem q1460 : (Jvm.Cond.methodLink "SpoonScalesLaw" (92 : Nat) ({ cls := "SpoonScalesModel", name := "called", desc := "(III)I" } : Jvm.MethodName)) ∈ lw_all := lw_g (lw_at lw_m6 187 rfl) rfl
theorem q1478 : (Jvm.Cond.methodLink "SpoonScalesLaw" (96 : Nat) ({ cls := "SpoonScalesModel", name := "acquitted", desc := "(II)I" } : Jvm.MethodName)) ∈ lw_all := lw_g (lw_at lw_m6 205 rfl) rfl
theorem q1486 : (Jvm.Cond.methodLink "SpoonScalesLaw" (101 : Nat) ({ cls := "SpoonScalesModel", name := "sets", desc := "(IIII)I" } : Jvm.MethodName)) ∈ lw_all := lw_g (lw_at lw_m6 213 rfl) rfl
theorem q1490 : (Jvm.Cond.methodLink "SpoonScalesLaw" (105 : Nat) ({ cls := "SpoonScalesModel", name := "tested", desc := "(II)I" } : Jvm.MethodName)) ∈ lw_all := lw_g (lw_at lw_m6 217 rfl) rfl
theorem q1494 : (Jvm.Cond.methodLink "SpoonScalesLaw" (109 : Nat) ({ cls := "SpoonScalesModel", name := "fits", desc := "()I" } : Jvm.MethodName)) ∈ lw_all := lw_g (lw_at lw_m6 221 rfl) rfl
theorem q1501 : (Jvm.Cond.methodLink "SpoonScalesLaw" (113 : Nat) ({ cls := "SpoonScalesModel", name := "next", desc := "()I" } : Jvm.MethodName)) ∈ lw_all := lw_g (lw_at lw_m6 228 rfl) rfl
theorem q1509 : (Jvm.Cond.methodLink "SpoonScalesLaw" (117 : Nat) ({ cls := "SpoonScalesModel", name := "hired", desc := "(I)I" } : Jvm.MethodName)) ∈ lw_all := lw_g (lw_at lw_m6 236 rfl) rfl
theorem q1513 : (Jvm.Cond.methodLink "SpoonScalesLaw" (121 : Nat) ({ cls := "SpoonScalesModel", name := "contrary", desc := "()I" } : Jvm.MethodName)) ∈ lw_all := lw_g (lw_at lw_m7 0 rfl) rfl
theorem q1517 : (Jvm.Cond.methodLink "SpoonScalesLaw" (126 : Nat) ({ cls := "SpoonScalesModel", name := "odds", desc := "(IIZ)J" } : Jvm.MethodName)) ∈ lw_all := lw_g (lw_at lw_m7 4 rfl) rfl
theorem q1525 : (Jvm.Cond.methodLink "SpoonScalesLaw" (130 : Nat) ({ cls := "SpoonScalesModel", name := "tell", desc := "(II)I" } : Jvm.MethodName)) ∈ lw_all := lw_g (lw_at lw_m7 12 rfl) rfl
theorem q1529 : (Jvm.Cond.methodLink "SpoonScalesLaw" (134 : Nat) ({ cls := "SpoonScalesModel", name := "liars", desc := "()I" } : Jvm.MethodName)) ∈ lw_all := lw_g (lw_at lw_m7 16 rfl) rfl
theorem q1537 : (Jvm.Cond.methodLink "SpoonScalesLaw" (138 : Nat) ({ cls := "SpoonScalesModel", name := "inWhoseName", desc := "(I)I" } : Jvm.MethodName)) ∈ lw_all := lw_g (lw_at lw_m7 24 rfl) rfl
theorem q1541 : (Jvm.Cond.methodLink "SpoonScalesLaw" (142 : Nat) ({ cls := "SpoonScalesModel", name := "image", desc := "()I" } : Jvm.MethodName)) ∈ lw_all := lw_g (lw_at lw_m7 28 rfl) rfl
theorem q1545 : (Jvm.Cond.methodLink "SpoonScalesLaw" (146 : Nat) ({ cls := "SpoonScalesModel", name := "back", desc := "()I" } : Jvm.MethodName)) ∈ lw_all := lw_g (lw_at lw_m7 32 rfl) rfl
theorem q1549 : (Jvm.Cond.methodLink "SpoonScalesLaw" (150 : Nat) ({ cls := "SpoonScalesModel", name := "about", desc := "(I)I" } : Jvm.MethodName)) ∈ lw_all := lw_g (lw_at lw_m7 36 rfl) rfl

theorem q411 : (Jvm.Cond.interfaceMethod "SpoonScales$Ask" "SpoonScales$Ask" "is" "(LSpoonScales$View;)Z") ∈ lw_tbl := lw_at lw_m2 98 rfl
set_option maxRecDepth 100000
theorem q412 : (Jvm.Cond.declares ({ cls := "SpoonScales$Ask", name := "is", desc := "(LSpoonScales$View;)Z" } : Jvm.MethodName)) ∈ lw_tbl := lw_at lw_m2 99 rfl

theorem q869 : (Jvm.Cond.interfaceMethod "SpoonScales$Line" "SpoonScales$Line" "done" "(LSpoonScales;)Z") ∈ lw_tbl := lw_at lw_m4 76 rfl
set_option maxRecDepth 100000
theorem q870 : (Jvm.Cond.declares ({ cls := "SpoonScales$Line", name := "done", desc := "(LSpoonScales;)Z" } : Jvm.MethodName)) ∈ lw_tbl := lw_at lw_m4 77 rfl

theorem q990 : (Jvm.Cond.sameMethod "[I" "java/lang/Object" "clone" "()Ljava/lang/Object;") ∈ lw_all := lw_g (lw_at lw_m4 197 rfl) rfl
set_option maxRecDepth 100000
theorem q993 : (Jvm.Cond.selects "[I" ({ cls := "[I", name := "clone", desc := "()Ljava/lang/Object;" } : Jvm.MethodName) ({ cls := "java/lang/Object", name := "clone", desc := "()Ljava/lang/Object;" } : Jvm.MethodName)) ∈ lw_all := lw_g (lw_at lw_m4 200 rfl) rfl
theorem q994 : (Jvm.Cond.castable "[I" "java/lang/Cloneable") ∈ lw_tbl := lw_at lw_m4 201 rfl

theorem q80 : (Jvm.Cond.initialized "java/lang/System") ∈ lw_all := lw_g (lw_at lw_m1 7 rfl) rfl
set_option maxRecDepth 100000
theorem q310 : (Jvm.Cond.static ({ cls := "java/lang/System", name := "arraycopy", desc := "(Ljava/lang/Object;ILjava/lang/Object;II)V" } : Jvm.MethodName)) ∈ lw_all := lw_g (lw_at lw_m1 237 rfl) rfl
theorem q311 : (Jvm.Cond.native ({ cls := "java/lang/System", name := "arraycopy", desc := "(Ljava/lang/Object;ILjava/lang/Object;II)V" } : Jvm.MethodName)) ∈ lw_all := lw_g (lw_at lw_m1 238 rfl) rfl

theorem q119 : (Jvm.Cond.arrayOver (Jvm.ClassFile.FieldType.array Jvm.ClassFile.FieldType.int)) ∈ lw_tbl := lw_at lw_m1 46 rfl
set_option maxRecDepth 100000
theorem q183 : (Jvm.Cond.arrayClass Jvm.ClassFile.FieldType.int) ∈ lw_all := lw_g (lw_at lw_m1 110 rfl) rfl
theorem q185 : (Jvm.Cond.arrayOver (Jvm.ClassFile.FieldType.object "SpoonScales$Law")) ∈ lw_tbl := lw_at lw_m1 112 rfl
theorem q192 : (Jvm.Cond.arrayOver (Jvm.ClassFile.FieldType.object "SpoonScales$Sum")) ∈ lw_tbl := lw_at lw_m1 119 rfl
theorem q194 : (Jvm.Cond.arrayOver (Jvm.ClassFile.FieldType.object "SpoonScales$Line")) ∈ lw_tbl := lw_at lw_m1 121 rfl
theorem q272 : (Jvm.Cond.arrayClass Jvm.ClassFile.FieldType.byte) ∈ lw_all := lw_g (lw_at lw_m1 199 rfl) rfl
theorem q1194 : (Jvm.Cond.arrayClass Jvm.ClassFile.FieldType.long) ∈ lw_all := lw_g (lw_at lw_m5 161 rfl) rfl
theorem q1570 : (Jvm.Cond.arrayOver (Jvm.ClassFile.FieldType.object "java/lang/String")) ∈ lw_tbl := lw_at lw_m7 57 rfl
