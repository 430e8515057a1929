/-! SpoonScales -/
set_option maxRecDepth 100000
def RX0 : String := "SpoonScales"
def TX0 : u_T := fun k => match k with
  | 0 => ("SpoonScales", "here", "LSpoonScales$Court;", true)
  | 1 => ("SpoonScales", "image", "LSpoonScales$Court;", true)
  | 2 => ("SpoonScales", "laws", "[LSpoonScales$Law;", true)
  | 3 => ("SpoonScales", "plain", "LSpoonScales$Law;", true)
  | 4 => ("SpoonScales", "moment", "LSpoonScales$Moment;", true)
  | 5 => ("SpoonScales", "tape", "[B", true)
  | 6 => ("SpoonScales", "taped", "I", false)
  | 7 => ("SpoonScales", "fault", "I", false)
  | 8 => ("SpoonScales", "faultPlace", "I", false)
  | 9 => ("SpoonScales", "rows", "[[I", true)
  | 10 => ("SpoonScales", "called", "[I", true)
  | 11 => ("SpoonScales", "best", "[I", true)
  | 12 => ("SpoonScales", "bestTilt", "I", false)
  | _ => ("SpoonScales", "bestHoney", "I", false)
def tyX0 : Nat → FieldType := fun k => match k with
  | 0 => .object "SpoonScales$Court"
  | 1 => .object "SpoonScales$Court"
  | 2 => .array (.object "SpoonScales$Law")
  | 3 => .object "SpoonScales$Law"
  | 4 => .object "SpoonScales$Moment"
  | 5 => .array .byte
  | 6 => .int
  | 7 => .int
  | 8 => .int
  | 9 => .array (.array .int)
  | 10 => .array .int
  | 11 => .array .int
  | 12 => .int
  | _ => .int
abbrev wsX00 : List Cond := u_ws RX0 TX0 14
set_option maxRecDepth 100000 in
theorem nmX0 : ∀ a, a < 14 → ∀ b, b < 14 → a ≠ b → (TX0 a).2.1 ≠ (TX0 b).2.1 := by decide +kernel
set_option maxRecDepth 100000 in
theorem tyX0_ok : ∀ k, k < 14 → parseFieldDescriptor (TX0 k).2.2.1 = some (tyX0 k) := by decide +kernel
abbrev cX0_init : ByteArray := prog_1_method_2_code
def yX0_init : MethodName := ⟨RX0, "<init>", "()V"⟩
def dkwX0_init_4 : List UInt8 := [181, 0, 53, 42, 16, 9, 188, 10, 181, 0, 57, 177]
abbrev dktX0_init_4 : List UInt8 := dkwX0_init_4 ++ []
def dkwX0_init_3 : List UInt8 := [42, 2, 181, 0, 45, 42, 16, 10, 16, 25, 197, 0, 48, 2, 181, 0, 50, 42, 16, 9, 188, 10]
abbrev dktX0_init_3 : List UInt8 := dkwX0_init_3 ++ dktX0_init_4
def dkwX0_init_2 : List UInt8 := [187, 0, 30, 89, 183, 0, 32, 181, 0, 33, 42, 17, 1, 44, 188, 8, 181, 0, 37, 42, 2, 181, 0, 41]
abbrev dktX0_init_2 : List UInt8 := dkwX0_init_2 ++ dktX0_init_3
def dkwX0_init_1 : List UInt8 := [181, 0, 16, 42, 7, 189, 0, 19, 181, 0, 21, 42, 187, 0, 19, 89, 183, 0, 25, 181, 0, 26, 42]
abbrev dktX0_init_1 : List UInt8 := dkwX0_init_1 ++ dktX0_init_2
def dkwX0_init_0 : List UInt8 := [42, 183, 0, 3, 42, 187, 0, 9, 89, 183, 0, 11, 181, 0, 12, 42, 187, 0, 9, 89, 183, 0, 11]
abbrev dktX0_init_0 : List UInt8 := dkwX0_init_0 ++ dktX0_init_1
theorem dksX0_init_0 : cX0_init.data.toList.drop 0 = dktX0_init_0 := by decide +kernel
theorem dksX0_init_1 : cX0_init.data.toList.drop 23 = dktX0_init_1 := dk_seg dksX0_init_0 23 rfl rfl
theorem dksX0_init_2 : cX0_init.data.toList.drop 46 = dktX0_init_2 := dk_seg dksX0_init_1 23 rfl rfl
theorem dksX0_init_3 : cX0_init.data.toList.drop 70 = dktX0_init_3 := dk_seg dksX0_init_2 24 rfl rfl
theorem dksX0_init_4 : cX0_init.data.toList.drop 92 = dktX0_init_4 := dk_seg dksX0_init_3 22 rfl rfl
theorem dX0_init_0 : decode cX0_init 0 = .ok (.aload_n 0, 1) := dk_42 (dk_at dksX0_init_0 0 rfl rfl)
theorem dX0_init_1 : decode cX0_init 1 = .ok (.invokespecial 3, 3) := dk_183 0 3 (dk_at dksX0_init_0 1 rfl rfl)
theorem dX0_init_4 : decode cX0_init 4 = .ok (.aload_n 0, 1) := dk_42 (dk_at dksX0_init_0 4 rfl rfl)
theorem dX0_init_5 : decode cX0_init 5 = .ok (.new 9, 3) := dk_187 0 9 (dk_at dksX0_init_0 5 rfl rfl)
theorem dX0_init_8 : decode cX0_init 8 = .ok (.dup, 1) := dk_89 (dk_at dksX0_init_0 8 rfl rfl)
theorem dX0_init_9 : decode cX0_init 9 = .ok (.invokespecial 11, 3) := dk_183 0 11 (dk_at dksX0_init_0 9 rfl rfl)
theorem dX0_init_12 : decode cX0_init 12 = .ok (.putfield 12, 3) := dk_181 0 12 (dk_at dksX0_init_0 12 rfl rfl)
theorem dX0_init_15 : decode cX0_init 15 = .ok (.aload_n 0, 1) := dk_42 (dk_at dksX0_init_0 15 rfl rfl)
theorem dX0_init_16 : decode cX0_init 16 = .ok (.new 9, 3) := dk_187 0 9 (dk_at dksX0_init_0 16 rfl rfl)
theorem dX0_init_19 : decode cX0_init 19 = .ok (.dup, 1) := dk_89 (dk_at dksX0_init_0 19 rfl rfl)
theorem dX0_init_20 : decode cX0_init 20 = .ok (.invokespecial 11, 3) := dk_183 0 11 (dk_at dksX0_init_0 20 rfl rfl)
theorem dX0_init_23 : decode cX0_init 23 = .ok (.putfield 16, 3) := dk_181 0 16 (dk_at dksX0_init_1 0 rfl rfl)
theorem dX0_init_26 : decode cX0_init 26 = .ok (.aload_n 0, 1) := dk_42 (dk_at dksX0_init_1 3 rfl rfl)
theorem dX0_init_27 : decode cX0_init 27 = .ok (.iconst 4, 1) := dk_7 (dk_at dksX0_init_1 4 rfl rfl)
theorem dX0_init_28 : decode cX0_init 28 = .ok (.anewarray 19, 3) := dk_189 0 19 (dk_at dksX0_init_1 5 rfl rfl)
theorem dX0_init_31 : decode cX0_init 31 = .ok (.putfield 21, 3) := dk_181 0 21 (dk_at dksX0_init_1 8 rfl rfl)
theorem dX0_init_34 : decode cX0_init 34 = .ok (.aload_n 0, 1) := dk_42 (dk_at dksX0_init_1 11 rfl rfl)
theorem dX0_init_35 : decode cX0_init 35 = .ok (.new 19, 3) := dk_187 0 19 (dk_at dksX0_init_1 12 rfl rfl)
theorem dX0_init_38 : decode cX0_init 38 = .ok (.dup, 1) := dk_89 (dk_at dksX0_init_1 15 rfl rfl)
theorem dX0_init_39 : decode cX0_init 39 = .ok (.invokespecial 25, 3) := dk_183 0 25 (dk_at dksX0_init_1 16 rfl rfl)
theorem dX0_init_42 : decode cX0_init 42 = .ok (.putfield 26, 3) := dk_181 0 26 (dk_at dksX0_init_1 19 rfl rfl)
theorem dX0_init_45 : decode cX0_init 45 = .ok (.aload_n 0, 1) := dk_42 (dk_at dksX0_init_1 22 rfl rfl)
theorem dX0_init_46 : decode cX0_init 46 = .ok (.new 30, 3) := dk_187 0 30 (dk_at dksX0_init_2 0 rfl rfl)
theorem dX0_init_49 : decode cX0_init 49 = .ok (.dup, 1) := dk_89 (dk_at dksX0_init_2 3 rfl rfl)
theorem dX0_init_50 : decode cX0_init 50 = .ok (.invokespecial 32, 3) := dk_183 0 32 (dk_at dksX0_init_2 4 rfl rfl)
theorem dX0_init_53 : decode cX0_init 53 = .ok (.putfield 33, 3) := dk_181 0 33 (dk_at dksX0_init_2 7 rfl rfl)
theorem dX0_init_56 : decode cX0_init 56 = .ok (.aload_n 0, 1) := dk_42 (dk_at dksX0_init_2 10 rfl rfl)
theorem dX0_init_57 : decode cX0_init 57 = .ok (.sipush 300, 3) := dk_17 1 44 (dk_at dksX0_init_2 11 rfl rfl)
theorem dX0_init_60 : decode cX0_init 60 = .ok (.newarray .byte, 2) := dk_188_8 (dk_at dksX0_init_2 14 rfl rfl)
theorem dX0_init_62 : decode cX0_init 62 = .ok (.putfield 37, 3) := dk_181 0 37 (dk_at dksX0_init_2 16 rfl rfl)
theorem dX0_init_65 : decode cX0_init 65 = .ok (.aload_n 0, 1) := dk_42 (dk_at dksX0_init_2 19 rfl rfl)
theorem dX0_init_66 : decode cX0_init 66 = .ok (.iconst (-1), 1) := dk_2 (dk_at dksX0_init_2 20 rfl rfl)
theorem dX0_init_67 : decode cX0_init 67 = .ok (.putfield 41, 3) := dk_181 0 41 (dk_at dksX0_init_2 21 rfl rfl)
theorem dX0_init_70 : decode cX0_init 70 = .ok (.aload_n 0, 1) := dk_42 (dk_at dksX0_init_3 0 rfl rfl)
theorem dX0_init_71 : decode cX0_init 71 = .ok (.iconst (-1), 1) := dk_2 (dk_at dksX0_init_3 1 rfl rfl)
theorem dX0_init_72 : decode cX0_init 72 = .ok (.putfield 45, 3) := dk_181 0 45 (dk_at dksX0_init_3 2 rfl rfl)
theorem dX0_init_75 : decode cX0_init 75 = .ok (.aload_n 0, 1) := dk_42 (dk_at dksX0_init_3 5 rfl rfl)
theorem dX0_init_76 : decode cX0_init 76 = .ok (.bipush 10, 2) := dk_16 10 (dk_at dksX0_init_3 6 rfl rfl)
theorem dX0_init_78 : decode cX0_init 78 = .ok (.bipush 25, 2) := dk_16 25 (dk_at dksX0_init_3 8 rfl rfl)
theorem dX0_init_80 : decode cX0_init 80 = .ok (.multianewarray 48 2, 4) := by decide +kernel
theorem dX0_init_84 : decode cX0_init 84 = .ok (.putfield 50, 3) := dk_181 0 50 (dk_at dksX0_init_3 14 rfl rfl)
theorem dX0_init_87 : decode cX0_init 87 = .ok (.aload_n 0, 1) := dk_42 (dk_at dksX0_init_3 17 rfl rfl)
theorem dX0_init_88 : decode cX0_init 88 = .ok (.bipush 9, 2) := dk_16 9 (dk_at dksX0_init_3 18 rfl rfl)
theorem dX0_init_90 : decode cX0_init 90 = .ok (.newarray .int, 2) := dk_188_10 (dk_at dksX0_init_3 20 rfl rfl)
theorem dX0_init_92 : decode cX0_init 92 = .ok (.putfield 53, 3) := dk_181 0 53 (dk_at dksX0_init_4 0 rfl rfl)
theorem dX0_init_95 : decode cX0_init 95 = .ok (.aload_n 0, 1) := dk_42 (dk_at dksX0_init_4 3 rfl rfl)
theorem dX0_init_96 : decode cX0_init 96 = .ok (.bipush 9, 2) := dk_16 9 (dk_at dksX0_init_4 4 rfl rfl)
theorem dX0_init_98 : decode cX0_init 98 = .ok (.newarray .int, 2) := dk_188_10 (dk_at dksX0_init_4 6 rfl rfl)
theorem dX0_init_100 : decode cX0_init 100 = .ok (.putfield 57, 3) := dk_181 0 57 (dk_at dksX0_init_4 8 rfl rfl)
theorem dX0_init_103 : decode cX0_init 103 = .ok (.return_, 1) := dk_177 (dk_at dksX0_init_4 11 rfl rfl)
abbrev cX0_pot : ByteArray := prog_1_method_7_code
def yX0_pot : MethodName := ⟨RX0, "pot", "(III)Z"⟩
def dkwX0_pot_1 : List UInt8 := [154, 0, 5, 3, 172, 42, 180, 0, 12, 180, 0, 77, 3, 5, 27, 104, 96, 28, 96, 29, 79, 4, 172]
abbrev dktX0_pot_1 : List UInt8 := dkwX0_pot_1 ++ []
def dkwX0_pot_0 : List UInt8 := [27, 184, 0, 70, 153, 0, 21, 28, 184, 0, 74, 153, 0, 14, 29, 3, 17, 3, 231, 184, 0, 66]
abbrev dktX0_pot_0 : List UInt8 := dkwX0_pot_0 ++ dktX0_pot_1
theorem dksX0_pot_0 : cX0_pot.data.toList.drop 0 = dktX0_pot_0 := by decide +kernel
theorem dksX0_pot_1 : cX0_pot.data.toList.drop 22 = dktX0_pot_1 := dk_seg dksX0_pot_0 22 rfl rfl
theorem dX0_pot_0 : decode cX0_pot 0 = .ok (.iload_n 1, 1) := dk_27 (dk_at dksX0_pot_0 0 rfl rfl)
theorem dX0_pot_1 : decode cX0_pot 1 = .ok (.invokestatic 70, 3) := dk_184 0 70 (dk_at dksX0_pot_0 1 rfl rfl)
theorem dX0_pot_4 : decode cX0_pot 4 = .ok (.ifCond .eq 21, 3) := dk_153 0 21 (dk_at dksX0_pot_0 4 rfl rfl)
theorem dX0_pot_7 : decode cX0_pot 7 = .ok (.iload_n 2, 1) := dk_28 (dk_at dksX0_pot_0 7 rfl rfl)
theorem dX0_pot_8 : decode cX0_pot 8 = .ok (.invokestatic 74, 3) := dk_184 0 74 (dk_at dksX0_pot_0 8 rfl rfl)
theorem dX0_pot_11 : decode cX0_pot 11 = .ok (.ifCond .eq 14, 3) := dk_153 0 14 (dk_at dksX0_pot_0 11 rfl rfl)
theorem dX0_pot_14 : decode cX0_pot 14 = .ok (.iload_n 3, 1) := dk_29 (dk_at dksX0_pot_0 14 rfl rfl)
theorem dX0_pot_15 : decode cX0_pot 15 = .ok (.iconst 0, 1) := dk_3 (dk_at dksX0_pot_0 15 rfl rfl)
theorem dX0_pot_16 : decode cX0_pot 16 = .ok (.sipush 999, 3) := dk_17 3 231 (dk_at dksX0_pot_0 16 rfl rfl)
theorem dX0_pot_19 : decode cX0_pot 19 = .ok (.invokestatic 66, 3) := dk_184 0 66 (dk_at dksX0_pot_0 19 rfl rfl)
theorem dX0_pot_22 : decode cX0_pot 22 = .ok (.ifCond .ne 5, 3) := dk_154 0 5 (dk_at dksX0_pot_1 0 rfl rfl)
theorem dX0_pot_25 : decode cX0_pot 25 = .ok (.iconst 0, 1) := dk_3 (dk_at dksX0_pot_1 3 rfl rfl)
theorem dX0_pot_26 : decode cX0_pot 26 = .ok (.ireturn, 1) := dk_172 (dk_at dksX0_pot_1 4 rfl rfl)
theorem dX0_pot_27 : decode cX0_pot 27 = .ok (.aload_n 0, 1) := dk_42 (dk_at dksX0_pot_1 5 rfl rfl)
theorem dX0_pot_28 : decode cX0_pot 28 = .ok (.getfield 12, 3) := dk_180 0 12 (dk_at dksX0_pot_1 6 rfl rfl)
theorem dX0_pot_31 : decode cX0_pot 31 = .ok (.getfield 77, 3) := dk_180 0 77 (dk_at dksX0_pot_1 9 rfl rfl)
theorem dX0_pot_34 : decode cX0_pot 34 = .ok (.iconst 0, 1) := dk_3 (dk_at dksX0_pot_1 12 rfl rfl)
theorem dX0_pot_35 : decode cX0_pot 35 = .ok (.iconst 2, 1) := dk_5 (dk_at dksX0_pot_1 13 rfl rfl)
theorem dX0_pot_36 : decode cX0_pot 36 = .ok (.iload_n 1, 1) := dk_27 (dk_at dksX0_pot_1 14 rfl rfl)
theorem dX0_pot_37 : decode cX0_pot 37 = .ok (.imul, 1) := dk_104 (dk_at dksX0_pot_1 15 rfl rfl)
theorem dX0_pot_38 : decode cX0_pot 38 = .ok (.iadd, 1) := dk_96 (dk_at dksX0_pot_1 16 rfl rfl)
theorem dX0_pot_39 : decode cX0_pot 39 = .ok (.iload_n 2, 1) := dk_28 (dk_at dksX0_pot_1 17 rfl rfl)
theorem dX0_pot_40 : decode cX0_pot 40 = .ok (.iadd, 1) := dk_96 (dk_at dksX0_pot_1 18 rfl rfl)
theorem dX0_pot_41 : decode cX0_pot 41 = .ok (.iload_n 3, 1) := dk_29 (dk_at dksX0_pot_1 19 rfl rfl)
theorem dX0_pot_42 : decode cX0_pot 42 = .ok (.iastore, 1) := dk_79 (dk_at dksX0_pot_1 20 rfl rfl)
theorem dX0_pot_43 : decode cX0_pot 43 = .ok (.iconst 1, 1) := dk_4 (dk_at dksX0_pot_1 21 rfl rfl)
theorem dX0_pot_44 : decode cX0_pot 44 = .ok (.ireturn, 1) := dk_172 (dk_at dksX0_pot_1 22 rfl rfl)
abbrev cX0_isSide : ByteArray := prog_1_method_5_code
def yX0_isSide : MethodName := ⟨RX0, "isSide", "(I)Z"⟩
def dkwX0_isSide_0 : List UInt8 := [26, 3, 4, 184, 0, 66, 172]
abbrev dktX0_isSide_0 : List UInt8 := dkwX0_isSide_0 ++ []
theorem dksX0_isSide_0 : cX0_isSide.data.toList.drop 0 = dktX0_isSide_0 := by decide +kernel
theorem dX0_isSide_0 : decode cX0_isSide 0 = .ok (.iload_n 0, 1) := dk_26 (dk_at dksX0_isSide_0 0 rfl rfl)
theorem dX0_isSide_1 : decode cX0_isSide 1 = .ok (.iconst 0, 1) := dk_3 (dk_at dksX0_isSide_0 1 rfl rfl)
theorem dX0_isSide_2 : decode cX0_isSide 2 = .ok (.iconst 1, 1) := dk_4 (dk_at dksX0_isSide_0 2 rfl rfl)
theorem dX0_isSide_3 : decode cX0_isSide 3 = .ok (.invokestatic 66, 3) := dk_184 0 66 (dk_at dksX0_isSide_0 3 rfl rfl)
theorem dX0_isSide_6 : decode cX0_isSide 6 = .ok (.ireturn, 1) := dk_172 (dk_at dksX0_isSide_0 6 rfl rfl)
abbrev cX0_in : ByteArray := prog_1_method_1_code
def yX0_in : MethodName := ⟨RX0, "in", "(III)Z"⟩
def dkwX0_in_0 : List UInt8 := [26, 27, 161, 0, 12, 26, 28, 163, 0, 7, 4, 167, 0, 4, 3, 172]
abbrev dktX0_in_0 : List UInt8 := dkwX0_in_0 ++ []
theorem dksX0_in_0 : cX0_in.data.toList.drop 0 = dktX0_in_0 := by decide +kernel
theorem dX0_in_0 : decode cX0_in 0 = .ok (.iload_n 0, 1) := dk_26 (dk_at dksX0_in_0 0 rfl rfl)
theorem dX0_in_1 : decode cX0_in 1 = .ok (.iload_n 1, 1) := dk_27 (dk_at dksX0_in_0 1 rfl rfl)
theorem dX0_in_2 : decode cX0_in 2 = .ok (.if_icmp .lt 12, 3) := dk_161 0 12 (dk_at dksX0_in_0 2 rfl rfl)
theorem dX0_in_5 : decode cX0_in 5 = .ok (.iload_n 0, 1) := dk_26 (dk_at dksX0_in_0 5 rfl rfl)
theorem dX0_in_6 : decode cX0_in 6 = .ok (.iload_n 2, 1) := dk_28 (dk_at dksX0_in_0 6 rfl rfl)
theorem dX0_in_7 : decode cX0_in 7 = .ok (.if_icmp .gt 7, 3) := dk_163 0 7 (dk_at dksX0_in_0 7 rfl rfl)
theorem dX0_in_10 : decode cX0_in 10 = .ok (.iconst 1, 1) := dk_4 (dk_at dksX0_in_0 10 rfl rfl)
theorem dX0_in_11 : decode cX0_in 11 = .ok (.goto 4, 3) := dk_167 0 4 (dk_at dksX0_in_0 11 rfl rfl)
theorem dX0_in_14 : decode cX0_in 14 = .ok (.iconst 0, 1) := dk_3 (dk_at dksX0_in_0 14 rfl rfl)
theorem dX0_in_15 : decode cX0_in 15 = .ok (.ireturn, 1) := dk_172 (dk_at dksX0_in_0 15 rfl rfl)
abbrev cX0_isKind : ByteArray := prog_1_method_6_code
def yX0_isKind : MethodName := ⟨RX0, "isKind", "(I)Z"⟩
def dkwX0_isKind_0 : List UInt8 := [26, 3, 4, 184, 0, 66, 172]
abbrev dktX0_isKind_0 : List UInt8 := dkwX0_isKind_0 ++ []
theorem dksX0_isKind_0 : cX0_isKind.data.toList.drop 0 = dktX0_isKind_0 := by decide +kernel
theorem dX0_isKind_0 : decode cX0_isKind 0 = .ok (.iload_n 0, 1) := dk_26 (dk_at dksX0_isKind_0 0 rfl rfl)
theorem dX0_isKind_1 : decode cX0_isKind 1 = .ok (.iconst 0, 1) := dk_3 (dk_at dksX0_isKind_0 1 rfl rfl)
theorem dX0_isKind_2 : decode cX0_isKind 2 = .ok (.iconst 1, 1) := dk_4 (dk_at dksX0_isKind_0 2 rfl rfl)
theorem dX0_isKind_3 : decode cX0_isKind 3 = .ok (.invokestatic 66, 3) := dk_184 0 66 (dk_at dksX0_isKind_0 3 rfl rfl)
theorem dX0_isKind_6 : decode cX0_isKind 6 = .ok (.ireturn, 1) := dk_172 (dk_at dksX0_isKind_0 6 rfl rfl)
abbrev cX0_eater : ByteArray := prog_1_method_8_code
def yX0_eater : MethodName := ⟨RX0, "eater", "(III)I"⟩
def dkwX0_eater_5 : List UInt8 := [3, 79, 21, 4, 172]
abbrev dktX0_eater_5 : List UInt8 := dkwX0_eater_5 ++ []
def dkwX0_eater_4 : List UInt8 := [180, 0, 12, 180, 0, 77, 7, 21, 4, 96, 5, 79, 42, 180, 0, 12, 180, 0, 77, 16, 13, 21, 4, 96]
abbrev dktX0_eater_4 : List UInt8 := dkwX0_eater_4 ++ dktX0_eater_5
def dkwX0_eater_3 : List UInt8 := [180, 0, 12, 180, 0, 83, 21, 4, 28, 79, 42, 180, 0, 12, 180, 0, 86, 21, 4, 29, 79, 42]
abbrev dktX0_eater_3 : List UInt8 := dkwX0_eater_3 ++ dktX0_eater_4
def dkwX0_eater_2 : List UInt8 := [89, 180, 0, 63, 90, 4, 96, 181, 0, 63, 54, 4, 42, 180, 0, 12, 180, 0, 80, 21, 4, 27, 79, 42]
abbrev dktX0_eater_2 : List UInt8 := dkwX0_eater_2 ++ dktX0_eater_3
def dkwX0_eater_1 : List UInt8 := [184, 0, 66, 153, 0, 15, 42, 180, 0, 12, 180, 0, 63, 16, 9, 160, 0, 5, 2, 172, 42, 180, 0, 12]
abbrev dktX0_eater_1 : List UInt8 := dkwX0_eater_1 ++ dktX0_eater_2
def dkwX0_eater_0 : List UInt8 := [27, 3, 16, 9, 184, 0, 66, 153, 0, 35, 28, 4, 16, 9, 184, 0, 66, 153, 0, 25, 29, 3, 16, 99]
abbrev dktX0_eater_0 : List UInt8 := dkwX0_eater_0 ++ dktX0_eater_1
theorem dksX0_eater_0 : cX0_eater.data.toList.drop 0 = dktX0_eater_0 := by decide +kernel
theorem dksX0_eater_1 : cX0_eater.data.toList.drop 24 = dktX0_eater_1 := dk_seg dksX0_eater_0 24 rfl rfl
theorem dksX0_eater_2 : cX0_eater.data.toList.drop 48 = dktX0_eater_2 := dk_seg dksX0_eater_1 24 rfl rfl
theorem dksX0_eater_3 : cX0_eater.data.toList.drop 72 = dktX0_eater_3 := dk_seg dksX0_eater_2 24 rfl rfl
theorem dksX0_eater_4 : cX0_eater.data.toList.drop 94 = dktX0_eater_4 := dk_seg dksX0_eater_3 22 rfl rfl
theorem dksX0_eater_5 : cX0_eater.data.toList.drop 118 = dktX0_eater_5 := dk_seg dksX0_eater_4 24 rfl rfl
theorem dX0_eater_0 : decode cX0_eater 0 = .ok (.iload_n 1, 1) := dk_27 (dk_at dksX0_eater_0 0 rfl rfl)
theorem dX0_eater_1 : decode cX0_eater 1 = .ok (.iconst 0, 1) := dk_3 (dk_at dksX0_eater_0 1 rfl rfl)
theorem dX0_eater_2 : decode cX0_eater 2 = .ok (.bipush 9, 2) := dk_16 9 (dk_at dksX0_eater_0 2 rfl rfl)
theorem dX0_eater_4 : decode cX0_eater 4 = .ok (.invokestatic 66, 3) := dk_184 0 66 (dk_at dksX0_eater_0 4 rfl rfl)
theorem dX0_eater_7 : decode cX0_eater 7 = .ok (.ifCond .eq 35, 3) := dk_153 0 35 (dk_at dksX0_eater_0 7 rfl rfl)
theorem dX0_eater_10 : decode cX0_eater 10 = .ok (.iload_n 2, 1) := dk_28 (dk_at dksX0_eater_0 10 rfl rfl)
theorem dX0_eater_11 : decode cX0_eater 11 = .ok (.iconst 1, 1) := dk_4 (dk_at dksX0_eater_0 11 rfl rfl)
theorem dX0_eater_12 : decode cX0_eater 12 = .ok (.bipush 9, 2) := dk_16 9 (dk_at dksX0_eater_0 12 rfl rfl)
theorem dX0_eater_14 : decode cX0_eater 14 = .ok (.invokestatic 66, 3) := dk_184 0 66 (dk_at dksX0_eater_0 14 rfl rfl)
theorem dX0_eater_17 : decode cX0_eater 17 = .ok (.ifCond .eq 25, 3) := dk_153 0 25 (dk_at dksX0_eater_0 17 rfl rfl)
theorem dX0_eater_20 : decode cX0_eater 20 = .ok (.iload_n 3, 1) := dk_29 (dk_at dksX0_eater_0 20 rfl rfl)
theorem dX0_eater_21 : decode cX0_eater 21 = .ok (.iconst 0, 1) := dk_3 (dk_at dksX0_eater_0 21 rfl rfl)
theorem dX0_eater_22 : decode cX0_eater 22 = .ok (.bipush 99, 2) := dk_16 99 (dk_at dksX0_eater_0 22 rfl rfl)
theorem dX0_eater_24 : decode cX0_eater 24 = .ok (.invokestatic 66, 3) := dk_184 0 66 (dk_at dksX0_eater_1 0 rfl rfl)
theorem dX0_eater_27 : decode cX0_eater 27 = .ok (.ifCond .eq 15, 3) := dk_153 0 15 (dk_at dksX0_eater_1 3 rfl rfl)
theorem dX0_eater_30 : decode cX0_eater 30 = .ok (.aload_n 0, 1) := dk_42 (dk_at dksX0_eater_1 6 rfl rfl)
theorem dX0_eater_31 : decode cX0_eater 31 = .ok (.getfield 12, 3) := dk_180 0 12 (dk_at dksX0_eater_1 7 rfl rfl)
theorem dX0_eater_34 : decode cX0_eater 34 = .ok (.getfield 63, 3) := dk_180 0 63 (dk_at dksX0_eater_1 10 rfl rfl)
theorem dX0_eater_37 : decode cX0_eater 37 = .ok (.bipush 9, 2) := dk_16 9 (dk_at dksX0_eater_1 13 rfl rfl)
theorem dX0_eater_39 : decode cX0_eater 39 = .ok (.if_icmp .ne 5, 3) := dk_160 0 5 (dk_at dksX0_eater_1 15 rfl rfl)
theorem dX0_eater_42 : decode cX0_eater 42 = .ok (.iconst (-1), 1) := dk_2 (dk_at dksX0_eater_1 18 rfl rfl)
theorem dX0_eater_43 : decode cX0_eater 43 = .ok (.ireturn, 1) := dk_172 (dk_at dksX0_eater_1 19 rfl rfl)
theorem dX0_eater_44 : decode cX0_eater 44 = .ok (.aload_n 0, 1) := dk_42 (dk_at dksX0_eater_1 20 rfl rfl)
theorem dX0_eater_45 : decode cX0_eater 45 = .ok (.getfield 12, 3) := dk_180 0 12 (dk_at dksX0_eater_1 21 rfl rfl)
theorem dX0_eater_48 : decode cX0_eater 48 = .ok (.dup, 1) := dk_89 (dk_at dksX0_eater_2 0 rfl rfl)
theorem dX0_eater_49 : decode cX0_eater 49 = .ok (.getfield 63, 3) := dk_180 0 63 (dk_at dksX0_eater_2 1 rfl rfl)
theorem dX0_eater_52 : decode cX0_eater 52 = .ok (.dup_x1, 1) := dk_90 (dk_at dksX0_eater_2 4 rfl rfl)
theorem dX0_eater_53 : decode cX0_eater 53 = .ok (.iconst 1, 1) := dk_4 (dk_at dksX0_eater_2 5 rfl rfl)
theorem dX0_eater_54 : decode cX0_eater 54 = .ok (.iadd, 1) := dk_96 (dk_at dksX0_eater_2 6 rfl rfl)
theorem dX0_eater_55 : decode cX0_eater 55 = .ok (.putfield 63, 3) := dk_181 0 63 (dk_at dksX0_eater_2 7 rfl rfl)
theorem dX0_eater_58 : decode cX0_eater 58 = .ok (.istore 4, 2) := dk_54 4 (dk_at dksX0_eater_2 10 rfl rfl)
theorem dX0_eater_60 : decode cX0_eater 60 = .ok (.aload_n 0, 1) := dk_42 (dk_at dksX0_eater_2 12 rfl rfl)
theorem dX0_eater_61 : decode cX0_eater 61 = .ok (.getfield 12, 3) := dk_180 0 12 (dk_at dksX0_eater_2 13 rfl rfl)
theorem dX0_eater_64 : decode cX0_eater 64 = .ok (.getfield 80, 3) := dk_180 0 80 (dk_at dksX0_eater_2 16 rfl rfl)
theorem dX0_eater_67 : decode cX0_eater 67 = .ok (.iload 4, 2) := dk_21 4 (dk_at dksX0_eater_2 19 rfl rfl)
theorem dX0_eater_69 : decode cX0_eater 69 = .ok (.iload_n 1, 1) := dk_27 (dk_at dksX0_eater_2 21 rfl rfl)
theorem dX0_eater_70 : decode cX0_eater 70 = .ok (.iastore, 1) := dk_79 (dk_at dksX0_eater_2 22 rfl rfl)
theorem dX0_eater_71 : decode cX0_eater 71 = .ok (.aload_n 0, 1) := dk_42 (dk_at dksX0_eater_2 23 rfl rfl)
theorem dX0_eater_72 : decode cX0_eater 72 = .ok (.getfield 12, 3) := dk_180 0 12 (dk_at dksX0_eater_3 0 rfl rfl)
theorem dX0_eater_75 : decode cX0_eater 75 = .ok (.getfield 83, 3) := dk_180 0 83 (dk_at dksX0_eater_3 3 rfl rfl)
theorem dX0_eater_78 : decode cX0_eater 78 = .ok (.iload 4, 2) := dk_21 4 (dk_at dksX0_eater_3 6 rfl rfl)
theorem dX0_eater_80 : decode cX0_eater 80 = .ok (.iload_n 2, 1) := dk_28 (dk_at dksX0_eater_3 8 rfl rfl)
theorem dX0_eater_81 : decode cX0_eater 81 = .ok (.iastore, 1) := dk_79 (dk_at dksX0_eater_3 9 rfl rfl)
theorem dX0_eater_82 : decode cX0_eater 82 = .ok (.aload_n 0, 1) := dk_42 (dk_at dksX0_eater_3 10 rfl rfl)
theorem dX0_eater_83 : decode cX0_eater 83 = .ok (.getfield 12, 3) := dk_180 0 12 (dk_at dksX0_eater_3 11 rfl rfl)
theorem dX0_eater_86 : decode cX0_eater 86 = .ok (.getfield 86, 3) := dk_180 0 86 (dk_at dksX0_eater_3 14 rfl rfl)
theorem dX0_eater_89 : decode cX0_eater 89 = .ok (.iload 4, 2) := dk_21 4 (dk_at dksX0_eater_3 17 rfl rfl)
theorem dX0_eater_91 : decode cX0_eater 91 = .ok (.iload_n 3, 1) := dk_29 (dk_at dksX0_eater_3 19 rfl rfl)
theorem dX0_eater_92 : decode cX0_eater 92 = .ok (.iastore, 1) := dk_79 (dk_at dksX0_eater_3 20 rfl rfl)
theorem dX0_eater_93 : decode cX0_eater 93 = .ok (.aload_n 0, 1) := dk_42 (dk_at dksX0_eater_3 21 rfl rfl)
theorem dX0_eater_94 : decode cX0_eater 94 = .ok (.getfield 12, 3) := dk_180 0 12 (dk_at dksX0_eater_4 0 rfl rfl)
theorem dX0_eater_97 : decode cX0_eater 97 = .ok (.getfield 77, 3) := dk_180 0 77 (dk_at dksX0_eater_4 3 rfl rfl)
theorem dX0_eater_100 : decode cX0_eater 100 = .ok (.iconst 4, 1) := dk_7 (dk_at dksX0_eater_4 6 rfl rfl)
theorem dX0_eater_101 : decode cX0_eater 101 = .ok (.iload 4, 2) := dk_21 4 (dk_at dksX0_eater_4 7 rfl rfl)
theorem dX0_eater_103 : decode cX0_eater 103 = .ok (.iadd, 1) := dk_96 (dk_at dksX0_eater_4 9 rfl rfl)
theorem dX0_eater_104 : decode cX0_eater 104 = .ok (.iconst 2, 1) := dk_5 (dk_at dksX0_eater_4 10 rfl rfl)
theorem dX0_eater_105 : decode cX0_eater 105 = .ok (.iastore, 1) := dk_79 (dk_at dksX0_eater_4 11 rfl rfl)
theorem dX0_eater_106 : decode cX0_eater 106 = .ok (.aload_n 0, 1) := dk_42 (dk_at dksX0_eater_4 12 rfl rfl)
theorem dX0_eater_107 : decode cX0_eater 107 = .ok (.getfield 12, 3) := dk_180 0 12 (dk_at dksX0_eater_4 13 rfl rfl)
theorem dX0_eater_110 : decode cX0_eater 110 = .ok (.getfield 77, 3) := dk_180 0 77 (dk_at dksX0_eater_4 16 rfl rfl)
theorem dX0_eater_113 : decode cX0_eater 113 = .ok (.bipush 13, 2) := dk_16 13 (dk_at dksX0_eater_4 19 rfl rfl)
theorem dX0_eater_115 : decode cX0_eater 115 = .ok (.iload 4, 2) := dk_21 4 (dk_at dksX0_eater_4 21 rfl rfl)
theorem dX0_eater_117 : decode cX0_eater 117 = .ok (.iadd, 1) := dk_96 (dk_at dksX0_eater_4 23 rfl rfl)
theorem dX0_eater_118 : decode cX0_eater 118 = .ok (.iconst 0, 1) := dk_3 (dk_at dksX0_eater_5 0 rfl rfl)
theorem dX0_eater_119 : decode cX0_eater 119 = .ok (.iastore, 1) := dk_79 (dk_at dksX0_eater_5 1 rfl rfl)
theorem dX0_eater_120 : decode cX0_eater 120 = .ok (.iload 4, 2) := dk_21 4 (dk_at dksX0_eater_5 2 rfl rfl)
theorem dX0_eater_122 : decode cX0_eater 122 = .ok (.ireturn, 1) := dk_172 (dk_at dksX0_eater_5 4 rfl rfl)
abbrev cX0_seed : ByteArray := prog_1_method_9_code
def yX0_seed : MethodName := ⟨RX0, "seed", "(I)Z"⟩
def dkwX0_seed_1 : List UInt8 := [104, 6, 96, 79, 4, 172]
abbrev dktX0_seed_1 : List UInt8 := dkwX0_seed_1 ++ []
def dkwX0_seed_0 : List UInt8 := [27, 3, 17, 39, 15, 184, 0, 66, 154, 0, 5, 3, 172, 42, 180, 0, 12, 180, 0, 77, 16, 22, 8, 27]
abbrev dktX0_seed_0 : List UInt8 := dkwX0_seed_0 ++ dktX0_seed_1
theorem dksX0_seed_0 : cX0_seed.data.toList.drop 0 = dktX0_seed_0 := by decide +kernel
theorem dksX0_seed_1 : cX0_seed.data.toList.drop 24 = dktX0_seed_1 := dk_seg dksX0_seed_0 24 rfl rfl
theorem dX0_seed_0 : decode cX0_seed 0 = .ok (.iload_n 1, 1) := dk_27 (dk_at dksX0_seed_0 0 rfl rfl)
theorem dX0_seed_1 : decode cX0_seed 1 = .ok (.iconst 0, 1) := dk_3 (dk_at dksX0_seed_0 1 rfl rfl)
theorem dX0_seed_2 : decode cX0_seed 2 = .ok (.sipush 9999, 3) := dk_17 39 15 (dk_at dksX0_seed_0 2 rfl rfl)
theorem dX0_seed_5 : decode cX0_seed 5 = .ok (.invokestatic 66, 3) := dk_184 0 66 (dk_at dksX0_seed_0 5 rfl rfl)
theorem dX0_seed_8 : decode cX0_seed 8 = .ok (.ifCond .ne 5, 3) := dk_154 0 5 (dk_at dksX0_seed_0 8 rfl rfl)
theorem dX0_seed_11 : decode cX0_seed 11 = .ok (.iconst 0, 1) := dk_3 (dk_at dksX0_seed_0 11 rfl rfl)
theorem dX0_seed_12 : decode cX0_seed 12 = .ok (.ireturn, 1) := dk_172 (dk_at dksX0_seed_0 12 rfl rfl)
theorem dX0_seed_13 : decode cX0_seed 13 = .ok (.aload_n 0, 1) := dk_42 (dk_at dksX0_seed_0 13 rfl rfl)
theorem dX0_seed_14 : decode cX0_seed 14 = .ok (.getfield 12, 3) := dk_180 0 12 (dk_at dksX0_seed_0 14 rfl rfl)
theorem dX0_seed_17 : decode cX0_seed 17 = .ok (.getfield 77, 3) := dk_180 0 77 (dk_at dksX0_seed_0 17 rfl rfl)
theorem dX0_seed_20 : decode cX0_seed 20 = .ok (.bipush 22, 2) := dk_16 22 (dk_at dksX0_seed_0 20 rfl rfl)
theorem dX0_seed_22 : decode cX0_seed 22 = .ok (.iconst 5, 1) := dk_8 (dk_at dksX0_seed_0 22 rfl rfl)
theorem dX0_seed_23 : decode cX0_seed 23 = .ok (.iload_n 1, 1) := dk_27 (dk_at dksX0_seed_0 23 rfl rfl)
theorem dX0_seed_24 : decode cX0_seed 24 = .ok (.imul, 1) := dk_104 (dk_at dksX0_seed_1 0 rfl rfl)
theorem dX0_seed_25 : decode cX0_seed 25 = .ok (.iconst 3, 1) := dk_6 (dk_at dksX0_seed_1 1 rfl rfl)
theorem dX0_seed_26 : decode cX0_seed 26 = .ok (.iadd, 1) := dk_96 (dk_at dksX0_seed_1 2 rfl rfl)
theorem dX0_seed_27 : decode cX0_seed 27 = .ok (.iastore, 1) := dk_79 (dk_at dksX0_seed_1 3 rfl rfl)
theorem dX0_seed_28 : decode cX0_seed 28 = .ok (.iconst 1, 1) := dk_4 (dk_at dksX0_seed_1 4 rfl rfl)
theorem dX0_seed_29 : decode cX0_seed 29 = .ok (.ireturn, 1) := dk_172 (dk_at dksX0_seed_1 5 rfl rfl)
abbrev cX0_sit : ByteArray := prog_1_method_17_code
def yX0_sit : MethodName := ⟨RX0, "sit", "(II)Z"⟩
def dkwX0_sit_2 : List UInt8 := [7, 27, 96, 28, 79, 4, 172]
abbrev dktX0_sit_2 : List UInt8 := dkwX0_sit_2 ++ []
def dkwX0_sit_1 : List UInt8 := [7, 27, 96, 46, 28, 160, 0, 5, 3, 172, 42, 180, 0, 12, 182, 0, 153, 42, 180, 0, 12, 180, 0, 77]
abbrev dktX0_sit_1 : List UInt8 := dkwX0_sit_1 ++ dktX0_sit_2
def dkwX0_sit_0 : List UInt8 := [42, 27, 182, 0, 150, 153, 0, 27, 28, 3, 5, 184, 0, 66, 153, 0, 18, 42, 180, 0, 12, 180, 0, 77]
abbrev dktX0_sit_0 : List UInt8 := dkwX0_sit_0 ++ dktX0_sit_1
theorem dksX0_sit_0 : cX0_sit.data.toList.drop 0 = dktX0_sit_0 := by decide +kernel
theorem dksX0_sit_1 : cX0_sit.data.toList.drop 24 = dktX0_sit_1 := dk_seg dksX0_sit_0 24 rfl rfl
theorem dksX0_sit_2 : cX0_sit.data.toList.drop 48 = dktX0_sit_2 := dk_seg dksX0_sit_1 24 rfl rfl
theorem dX0_sit_0 : decode cX0_sit 0 = .ok (.aload_n 0, 1) := dk_42 (dk_at dksX0_sit_0 0 rfl rfl)
theorem dX0_sit_1 : decode cX0_sit 1 = .ok (.iload_n 1, 1) := dk_27 (dk_at dksX0_sit_0 1 rfl rfl)
theorem dX0_sit_2 : decode cX0_sit 2 = .ok (.invokevirtual 150, 3) := dk_182 0 150 (dk_at dksX0_sit_0 2 rfl rfl)
theorem dX0_sit_5 : decode cX0_sit 5 = .ok (.ifCond .eq 27, 3) := dk_153 0 27 (dk_at dksX0_sit_0 5 rfl rfl)
theorem dX0_sit_8 : decode cX0_sit 8 = .ok (.iload_n 2, 1) := dk_28 (dk_at dksX0_sit_0 8 rfl rfl)
theorem dX0_sit_9 : decode cX0_sit 9 = .ok (.iconst 0, 1) := dk_3 (dk_at dksX0_sit_0 9 rfl rfl)
theorem dX0_sit_10 : decode cX0_sit 10 = .ok (.iconst 2, 1) := dk_5 (dk_at dksX0_sit_0 10 rfl rfl)
theorem dX0_sit_11 : decode cX0_sit 11 = .ok (.invokestatic 66, 3) := dk_184 0 66 (dk_at dksX0_sit_0 11 rfl rfl)
theorem dX0_sit_14 : decode cX0_sit 14 = .ok (.ifCond .eq 18, 3) := dk_153 0 18 (dk_at dksX0_sit_0 14 rfl rfl)
theorem dX0_sit_17 : decode cX0_sit 17 = .ok (.aload_n 0, 1) := dk_42 (dk_at dksX0_sit_0 17 rfl rfl)
theorem dX0_sit_18 : decode cX0_sit 18 = .ok (.getfield 12, 3) := dk_180 0 12 (dk_at dksX0_sit_0 18 rfl rfl)
theorem dX0_sit_21 : decode cX0_sit 21 = .ok (.getfield 77, 3) := dk_180 0 77 (dk_at dksX0_sit_0 21 rfl rfl)
theorem dX0_sit_24 : decode cX0_sit 24 = .ok (.iconst 4, 1) := dk_7 (dk_at dksX0_sit_1 0 rfl rfl)
theorem dX0_sit_25 : decode cX0_sit 25 = .ok (.iload_n 1, 1) := dk_27 (dk_at dksX0_sit_1 1 rfl rfl)
theorem dX0_sit_26 : decode cX0_sit 26 = .ok (.iadd, 1) := dk_96 (dk_at dksX0_sit_1 2 rfl rfl)
theorem dX0_sit_27 : decode cX0_sit 27 = .ok (.iaload, 1) := dk_46 (dk_at dksX0_sit_1 3 rfl rfl)
theorem dX0_sit_28 : decode cX0_sit 28 = .ok (.iload_n 2, 1) := dk_28 (dk_at dksX0_sit_1 4 rfl rfl)
theorem dX0_sit_29 : decode cX0_sit 29 = .ok (.if_icmp .ne 5, 3) := dk_160 0 5 (dk_at dksX0_sit_1 5 rfl rfl)
theorem dX0_sit_32 : decode cX0_sit 32 = .ok (.iconst 0, 1) := dk_3 (dk_at dksX0_sit_1 8 rfl rfl)
theorem dX0_sit_33 : decode cX0_sit 33 = .ok (.ireturn, 1) := dk_172 (dk_at dksX0_sit_1 9 rfl rfl)
theorem dX0_sit_34 : decode cX0_sit 34 = .ok (.aload_n 0, 1) := dk_42 (dk_at dksX0_sit_1 10 rfl rfl)
theorem dX0_sit_35 : decode cX0_sit 35 = .ok (.getfield 12, 3) := dk_180 0 12 (dk_at dksX0_sit_1 11 rfl rfl)
theorem dX0_sit_38 : decode cX0_sit 38 = .ok (.invokevirtual 153, 3) := dk_182 0 153 (dk_at dksX0_sit_1 14 rfl rfl)
theorem dX0_sit_41 : decode cX0_sit 41 = .ok (.aload_n 0, 1) := dk_42 (dk_at dksX0_sit_1 17 rfl rfl)
theorem dX0_sit_42 : decode cX0_sit 42 = .ok (.getfield 12, 3) := dk_180 0 12 (dk_at dksX0_sit_1 18 rfl rfl)
theorem dX0_sit_45 : decode cX0_sit 45 = .ok (.getfield 77, 3) := dk_180 0 77 (dk_at dksX0_sit_1 21 rfl rfl)
theorem dX0_sit_48 : decode cX0_sit 48 = .ok (.iconst 4, 1) := dk_7 (dk_at dksX0_sit_2 0 rfl rfl)
theorem dX0_sit_49 : decode cX0_sit 49 = .ok (.iload_n 1, 1) := dk_27 (dk_at dksX0_sit_2 1 rfl rfl)
theorem dX0_sit_50 : decode cX0_sit 50 = .ok (.iadd, 1) := dk_96 (dk_at dksX0_sit_2 2 rfl rfl)
theorem dX0_sit_51 : decode cX0_sit 51 = .ok (.iload_n 2, 1) := dk_28 (dk_at dksX0_sit_2 3 rfl rfl)
theorem dX0_sit_52 : decode cX0_sit 52 = .ok (.iastore, 1) := dk_79 (dk_at dksX0_sit_2 4 rfl rfl)
theorem dX0_sit_53 : decode cX0_sit 53 = .ok (.iconst 1, 1) := dk_4 (dk_at dksX0_sit_2 5 rfl rfl)
theorem dX0_sit_54 : decode cX0_sit 54 = .ok (.ireturn, 1) := dk_172 (dk_at dksX0_sit_2 6 rfl rfl)
abbrev cX0_isEater : ByteArray := prog_1_method_4_code
def yX0_isEater : MethodName := ⟨RX0, "isEater", "(I)Z"⟩
def dkwX0_isEater_0 : List UInt8 := [27, 3, 42, 180, 0, 12, 180, 0, 63, 4, 100, 184, 0, 66, 172]
abbrev dktX0_isEater_0 : List UInt8 := dkwX0_isEater_0 ++ []
theorem dksX0_isEater_0 : cX0_isEater.data.toList.drop 0 = dktX0_isEater_0 := by decide +kernel
theorem dX0_isEater_0 : decode cX0_isEater 0 = .ok (.iload_n 1, 1) := dk_27 (dk_at dksX0_isEater_0 0 rfl rfl)
theorem dX0_isEater_1 : decode cX0_isEater 1 = .ok (.iconst 0, 1) := dk_3 (dk_at dksX0_isEater_0 1 rfl rfl)
theorem dX0_isEater_2 : decode cX0_isEater 2 = .ok (.aload_n 0, 1) := dk_42 (dk_at dksX0_isEater_0 2 rfl rfl)
theorem dX0_isEater_3 : decode cX0_isEater 3 = .ok (.getfield 12, 3) := dk_180 0 12 (dk_at dksX0_isEater_0 3 rfl rfl)
theorem dX0_isEater_6 : decode cX0_isEater 6 = .ok (.getfield 63, 3) := dk_180 0 63 (dk_at dksX0_isEater_0 6 rfl rfl)
theorem dX0_isEater_9 : decode cX0_isEater 9 = .ok (.iconst 1, 1) := dk_4 (dk_at dksX0_isEater_0 9 rfl rfl)
theorem dX0_isEater_10 : decode cX0_isEater 10 = .ok (.isub, 1) := dk_100 (dk_at dksX0_isEater_0 10 rfl rfl)
theorem dX0_isEater_11 : decode cX0_isEater 11 = .ok (.invokestatic 66, 3) := dk_184 0 66 (dk_at dksX0_isEater_0 11 rfl rfl)
theorem dX0_isEater_14 : decode cX0_isEater 14 = .ok (.ireturn, 1) := dk_172 (dk_at dksX0_isEater_0 14 rfl rfl)
abbrev cX0_spoon : ByteArray := prog_1_method_18_code
def yX0_spoon : MethodName := ⟨RX0, "spoon", "(II)I"⟩
def dkwX0_spoon_4 : List UInt8 := [45, 6, 42, 42, 180, 0, 12, 180, 0, 77, 27, 28, 182, 0, 159, 79, 45, 6, 46, 172]
abbrev dktX0_spoon_4 : List UInt8 := dkwX0_spoon_4 ++ []
def dkwX0_spoon_3 : List UInt8 := [50, 78, 45, 3, 27, 79, 45, 4, 42, 180, 0, 12, 180, 0, 77, 7, 27, 96, 46, 79, 45, 5, 28, 79]
abbrev dktX0_spoon_3 : List UInt8 := dkwX0_spoon_3 ++ dktX0_spoon_4
def dkwX0_spoon_2 : List UInt8 := [42, 180, 0, 12, 182, 0, 153, 42, 180, 0, 12, 180, 0, 156, 42, 180, 0, 12, 180, 0, 77, 16, 23, 46]
abbrev dktX0_spoon_2 : List UInt8 := dkwX0_spoon_2 ++ dktX0_spoon_3
def dkwX0_spoon_1 : List UInt8 := [46, 16, 60, 159, 0, 19, 42, 42, 180, 0, 12, 180, 0, 77, 27, 28, 182, 0, 146, 154, 0, 5, 2, 172]
abbrev dktX0_spoon_1 : List UInt8 := dkwX0_spoon_1 ++ dktX0_spoon_2
def dkwX0_spoon_0 : List UInt8 := [42, 27, 182, 0, 150, 153, 0, 41, 28, 184, 0, 74, 153, 0, 34, 42, 180, 0, 12, 180, 0, 77, 16, 23]
abbrev dktX0_spoon_0 : List UInt8 := dkwX0_spoon_0 ++ dktX0_spoon_1
theorem dksX0_spoon_0 : cX0_spoon.data.toList.drop 0 = dktX0_spoon_0 := by decide +kernel
theorem dksX0_spoon_1 : cX0_spoon.data.toList.drop 24 = dktX0_spoon_1 := dk_seg dksX0_spoon_0 24 rfl rfl
theorem dksX0_spoon_2 : cX0_spoon.data.toList.drop 48 = dktX0_spoon_2 := dk_seg dksX0_spoon_1 24 rfl rfl
theorem dksX0_spoon_3 : cX0_spoon.data.toList.drop 72 = dktX0_spoon_3 := dk_seg dksX0_spoon_2 24 rfl rfl
theorem dksX0_spoon_4 : cX0_spoon.data.toList.drop 96 = dktX0_spoon_4 := dk_seg dksX0_spoon_3 24 rfl rfl
theorem dX0_spoon_0 : decode cX0_spoon 0 = .ok (.aload_n 0, 1) := dk_42 (dk_at dksX0_spoon_0 0 rfl rfl)
theorem dX0_spoon_1 : decode cX0_spoon 1 = .ok (.iload_n 1, 1) := dk_27 (dk_at dksX0_spoon_0 1 rfl rfl)
theorem dX0_spoon_2 : decode cX0_spoon 2 = .ok (.invokevirtual 150, 3) := dk_182 0 150 (dk_at dksX0_spoon_0 2 rfl rfl)
theorem dX0_spoon_5 : decode cX0_spoon 5 = .ok (.ifCond .eq 41, 3) := dk_153 0 41 (dk_at dksX0_spoon_0 5 rfl rfl)
theorem dX0_spoon_8 : decode cX0_spoon 8 = .ok (.iload_n 2, 1) := dk_28 (dk_at dksX0_spoon_0 8 rfl rfl)
theorem dX0_spoon_9 : decode cX0_spoon 9 = .ok (.invokestatic 74, 3) := dk_184 0 74 (dk_at dksX0_spoon_0 9 rfl rfl)
theorem dX0_spoon_12 : decode cX0_spoon 12 = .ok (.ifCond .eq 34, 3) := dk_153 0 34 (dk_at dksX0_spoon_0 12 rfl rfl)
theorem dX0_spoon_15 : decode cX0_spoon 15 = .ok (.aload_n 0, 1) := dk_42 (dk_at dksX0_spoon_0 15 rfl rfl)
theorem dX0_spoon_16 : decode cX0_spoon 16 = .ok (.getfield 12, 3) := dk_180 0 12 (dk_at dksX0_spoon_0 16 rfl rfl)
theorem dX0_spoon_19 : decode cX0_spoon 19 = .ok (.getfield 77, 3) := dk_180 0 77 (dk_at dksX0_spoon_0 19 rfl rfl)
theorem dX0_spoon_22 : decode cX0_spoon 22 = .ok (.bipush 23, 2) := dk_16 23 (dk_at dksX0_spoon_0 22 rfl rfl)
theorem dX0_spoon_24 : decode cX0_spoon 24 = .ok (.iaload, 1) := dk_46 (dk_at dksX0_spoon_1 0 rfl rfl)
theorem dX0_spoon_25 : decode cX0_spoon 25 = .ok (.bipush 60, 2) := dk_16 60 (dk_at dksX0_spoon_1 1 rfl rfl)
theorem dX0_spoon_27 : decode cX0_spoon 27 = .ok (.if_icmp .eq 19, 3) := dk_159 0 19 (dk_at dksX0_spoon_1 3 rfl rfl)
theorem dX0_spoon_30 : decode cX0_spoon 30 = .ok (.aload_n 0, 1) := dk_42 (dk_at dksX0_spoon_1 6 rfl rfl)
theorem dX0_spoon_31 : decode cX0_spoon 31 = .ok (.aload_n 0, 1) := dk_42 (dk_at dksX0_spoon_1 7 rfl rfl)
theorem dX0_spoon_32 : decode cX0_spoon 32 = .ok (.getfield 12, 3) := dk_180 0 12 (dk_at dksX0_spoon_1 8 rfl rfl)
theorem dX0_spoon_35 : decode cX0_spoon 35 = .ok (.getfield 77, 3) := dk_180 0 77 (dk_at dksX0_spoon_1 11 rfl rfl)
theorem dX0_spoon_38 : decode cX0_spoon 38 = .ok (.iload_n 1, 1) := dk_27 (dk_at dksX0_spoon_1 14 rfl rfl)
theorem dX0_spoon_39 : decode cX0_spoon 39 = .ok (.iload_n 2, 1) := dk_28 (dk_at dksX0_spoon_1 15 rfl rfl)
theorem dX0_spoon_40 : decode cX0_spoon 40 = .ok (.invokevirtual 146, 3) := dk_182 0 146 (dk_at dksX0_spoon_1 16 rfl rfl)
theorem dX0_spoon_43 : decode cX0_spoon 43 = .ok (.ifCond .ne 5, 3) := dk_154 0 5 (dk_at dksX0_spoon_1 19 rfl rfl)
theorem dX0_spoon_46 : decode cX0_spoon 46 = .ok (.iconst (-1), 1) := dk_2 (dk_at dksX0_spoon_1 22 rfl rfl)
theorem dX0_spoon_47 : decode cX0_spoon 47 = .ok (.ireturn, 1) := dk_172 (dk_at dksX0_spoon_1 23 rfl rfl)
theorem dX0_spoon_48 : decode cX0_spoon 48 = .ok (.aload_n 0, 1) := dk_42 (dk_at dksX0_spoon_2 0 rfl rfl)
theorem dX0_spoon_49 : decode cX0_spoon 49 = .ok (.getfield 12, 3) := dk_180 0 12 (dk_at dksX0_spoon_2 1 rfl rfl)
theorem dX0_spoon_52 : decode cX0_spoon 52 = .ok (.invokevirtual 153, 3) := dk_182 0 153 (dk_at dksX0_spoon_2 4 rfl rfl)
theorem dX0_spoon_55 : decode cX0_spoon 55 = .ok (.aload_n 0, 1) := dk_42 (dk_at dksX0_spoon_2 7 rfl rfl)
theorem dX0_spoon_56 : decode cX0_spoon 56 = .ok (.getfield 12, 3) := dk_180 0 12 (dk_at dksX0_spoon_2 8 rfl rfl)
theorem dX0_spoon_59 : decode cX0_spoon 59 = .ok (.getfield 156, 3) := dk_180 0 156 (dk_at dksX0_spoon_2 11 rfl rfl)
theorem dX0_spoon_62 : decode cX0_spoon 62 = .ok (.aload_n 0, 1) := dk_42 (dk_at dksX0_spoon_2 14 rfl rfl)
theorem dX0_spoon_63 : decode cX0_spoon 63 = .ok (.getfield 12, 3) := dk_180 0 12 (dk_at dksX0_spoon_2 15 rfl rfl)
theorem dX0_spoon_66 : decode cX0_spoon 66 = .ok (.getfield 77, 3) := dk_180 0 77 (dk_at dksX0_spoon_2 18 rfl rfl)
theorem dX0_spoon_69 : decode cX0_spoon 69 = .ok (.bipush 23, 2) := dk_16 23 (dk_at dksX0_spoon_2 21 rfl rfl)
theorem dX0_spoon_71 : decode cX0_spoon 71 = .ok (.iaload, 1) := dk_46 (dk_at dksX0_spoon_2 23 rfl rfl)
theorem dX0_spoon_72 : decode cX0_spoon 72 = .ok (.aaload, 1) := dk_50 (dk_at dksX0_spoon_3 0 rfl rfl)
theorem dX0_spoon_73 : decode cX0_spoon 73 = .ok (.astore_n 3, 1) := dk_78 (dk_at dksX0_spoon_3 1 rfl rfl)
theorem dX0_spoon_74 : decode cX0_spoon 74 = .ok (.aload_n 3, 1) := dk_45 (dk_at dksX0_spoon_3 2 rfl rfl)
theorem dX0_spoon_75 : decode cX0_spoon 75 = .ok (.iconst 0, 1) := dk_3 (dk_at dksX0_spoon_3 3 rfl rfl)
theorem dX0_spoon_76 : decode cX0_spoon 76 = .ok (.iload_n 1, 1) := dk_27 (dk_at dksX0_spoon_3 4 rfl rfl)
theorem dX0_spoon_77 : decode cX0_spoon 77 = .ok (.iastore, 1) := dk_79 (dk_at dksX0_spoon_3 5 rfl rfl)
theorem dX0_spoon_78 : decode cX0_spoon 78 = .ok (.aload_n 3, 1) := dk_45 (dk_at dksX0_spoon_3 6 rfl rfl)
theorem dX0_spoon_79 : decode cX0_spoon 79 = .ok (.iconst 1, 1) := dk_4 (dk_at dksX0_spoon_3 7 rfl rfl)
theorem dX0_spoon_80 : decode cX0_spoon 80 = .ok (.aload_n 0, 1) := dk_42 (dk_at dksX0_spoon_3 8 rfl rfl)
theorem dX0_spoon_81 : decode cX0_spoon 81 = .ok (.getfield 12, 3) := dk_180 0 12 (dk_at dksX0_spoon_3 9 rfl rfl)
theorem dX0_spoon_84 : decode cX0_spoon 84 = .ok (.getfield 77, 3) := dk_180 0 77 (dk_at dksX0_spoon_3 12 rfl rfl)
theorem dX0_spoon_87 : decode cX0_spoon 87 = .ok (.iconst 4, 1) := dk_7 (dk_at dksX0_spoon_3 15 rfl rfl)
theorem dX0_spoon_88 : decode cX0_spoon 88 = .ok (.iload_n 1, 1) := dk_27 (dk_at dksX0_spoon_3 16 rfl rfl)
theorem dX0_spoon_89 : decode cX0_spoon 89 = .ok (.iadd, 1) := dk_96 (dk_at dksX0_spoon_3 17 rfl rfl)
theorem dX0_spoon_90 : decode cX0_spoon 90 = .ok (.iaload, 1) := dk_46 (dk_at dksX0_spoon_3 18 rfl rfl)
theorem dX0_spoon_91 : decode cX0_spoon 91 = .ok (.iastore, 1) := dk_79 (dk_at dksX0_spoon_3 19 rfl rfl)
theorem dX0_spoon_92 : decode cX0_spoon 92 = .ok (.aload_n 3, 1) := dk_45 (dk_at dksX0_spoon_3 20 rfl rfl)
theorem dX0_spoon_93 : decode cX0_spoon 93 = .ok (.iconst 2, 1) := dk_5 (dk_at dksX0_spoon_3 21 rfl rfl)
theorem dX0_spoon_94 : decode cX0_spoon 94 = .ok (.iload_n 2, 1) := dk_28 (dk_at dksX0_spoon_3 22 rfl rfl)
theorem dX0_spoon_95 : decode cX0_spoon 95 = .ok (.iastore, 1) := dk_79 (dk_at dksX0_spoon_3 23 rfl rfl)
theorem dX0_spoon_96 : decode cX0_spoon 96 = .ok (.aload_n 3, 1) := dk_45 (dk_at dksX0_spoon_4 0 rfl rfl)
theorem dX0_spoon_97 : decode cX0_spoon 97 = .ok (.iconst 3, 1) := dk_6 (dk_at dksX0_spoon_4 1 rfl rfl)
theorem dX0_spoon_98 : decode cX0_spoon 98 = .ok (.aload_n 0, 1) := dk_42 (dk_at dksX0_spoon_4 2 rfl rfl)
theorem dX0_spoon_99 : decode cX0_spoon 99 = .ok (.aload_n 0, 1) := dk_42 (dk_at dksX0_spoon_4 3 rfl rfl)
theorem dX0_spoon_100 : decode cX0_spoon 100 = .ok (.getfield 12, 3) := dk_180 0 12 (dk_at dksX0_spoon_4 4 rfl rfl)
theorem dX0_spoon_103 : decode cX0_spoon 103 = .ok (.getfield 77, 3) := dk_180 0 77 (dk_at dksX0_spoon_4 7 rfl rfl)
theorem dX0_spoon_106 : decode cX0_spoon 106 = .ok (.iload_n 1, 1) := dk_27 (dk_at dksX0_spoon_4 10 rfl rfl)
theorem dX0_spoon_107 : decode cX0_spoon 107 = .ok (.iload_n 2, 1) := dk_28 (dk_at dksX0_spoon_4 11 rfl rfl)
theorem dX0_spoon_108 : decode cX0_spoon 108 = .ok (.invokevirtual 159, 3) := dk_182 0 159 (dk_at dksX0_spoon_4 12 rfl rfl)
theorem dX0_spoon_111 : decode cX0_spoon 111 = .ok (.iastore, 1) := dk_79 (dk_at dksX0_spoon_4 15 rfl rfl)
theorem dX0_spoon_112 : decode cX0_spoon 112 = .ok (.aload_n 3, 1) := dk_45 (dk_at dksX0_spoon_4 16 rfl rfl)
theorem dX0_spoon_113 : decode cX0_spoon 113 = .ok (.iconst 3, 1) := dk_6 (dk_at dksX0_spoon_4 17 rfl rfl)
theorem dX0_spoon_114 : decode cX0_spoon 114 = .ok (.iaload, 1) := dk_46 (dk_at dksX0_spoon_4 18 rfl rfl)
theorem dX0_spoon_115 : decode cX0_spoon 115 = .ok (.ireturn, 1) := dk_172 (dk_at dksX0_spoon_4 19 rfl rfl)
abbrev cX0_spoonOf : ByteArray := prog_1_method_13_code
def yX0_spoonOf : MethodName := ⟨RX0, "spoonOf", "([III)I"⟩
def dkwX0_spoonOf_4 : List UInt8 := [184, 0, 126, 42, 43, 28, 182, 0, 128, 184, 0, 126, 172]
abbrev dktX0_spoonOf_4 : List UInt8 := dkwX0_spoonOf_4 ++ []
def dkwX0_spoonOf_3 : List UInt8 := [42, 180, 0, 12, 180, 0, 80, 28, 46, 4, 96, 16, 99, 182, 0, 119, 54, 7, 21, 7, 21, 5]
abbrev dktX0_spoonOf_3 : List UInt8 := dkwX0_spoonOf_3 ++ dktX0_spoonOf_4
def dkwX0_spoonOf_2 : List UInt8 := [25, 6, 8, 21, 5, 79, 25, 6, 16, 6, 43, 16, 23, 46, 79, 25, 6, 16, 7, 21, 4, 79, 42, 3]
abbrev dktX0_spoonOf_2 : List UInt8 := dkwX0_spoonOf_2 ++ dktX0_spoonOf_3
def dkwX0_spoonOf_1 : List UInt8 := [46, 54, 5, 42, 43, 28, 182, 0, 115, 42, 180, 0, 33, 180, 0, 112, 58, 6, 25, 6, 7, 29, 79]
abbrev dktX0_spoonOf_1 : List UInt8 := dkwX0_spoonOf_1 ++ dktX0_spoonOf_2
def dkwX0_spoonOf_0 : List UInt8 := [43, 7, 28, 96, 46, 54, 4, 21, 4, 5, 160, 0, 5, 3, 172, 43, 3, 5, 21, 4, 104, 96, 29, 96]
abbrev dktX0_spoonOf_0 : List UInt8 := dkwX0_spoonOf_0 ++ dktX0_spoonOf_1
theorem dksX0_spoonOf_0 : cX0_spoonOf.data.toList.drop 0 = dktX0_spoonOf_0 := by decide +kernel
theorem dksX0_spoonOf_1 : cX0_spoonOf.data.toList.drop 24 = dktX0_spoonOf_1 := dk_seg dksX0_spoonOf_0 24 rfl rfl
theorem dksX0_spoonOf_2 : cX0_spoonOf.data.toList.drop 47 = dktX0_spoonOf_2 := dk_seg dksX0_spoonOf_1 23 rfl rfl
theorem dksX0_spoonOf_3 : cX0_spoonOf.data.toList.drop 71 = dktX0_spoonOf_3 := dk_seg dksX0_spoonOf_2 24 rfl rfl
theorem dksX0_spoonOf_4 : cX0_spoonOf.data.toList.drop 93 = dktX0_spoonOf_4 := dk_seg dksX0_spoonOf_3 22 rfl rfl
theorem dX0_spoonOf_0 : decode cX0_spoonOf 0 = .ok (.aload_n 1, 1) := dk_43 (dk_at dksX0_spoonOf_0 0 rfl rfl)
theorem dX0_spoonOf_1 : decode cX0_spoonOf 1 = .ok (.iconst 4, 1) := dk_7 (dk_at dksX0_spoonOf_0 1 rfl rfl)
theorem dX0_spoonOf_2 : decode cX0_spoonOf 2 = .ok (.iload_n 2, 1) := dk_28 (dk_at dksX0_spoonOf_0 2 rfl rfl)
theorem dX0_spoonOf_3 : decode cX0_spoonOf 3 = .ok (.iadd, 1) := dk_96 (dk_at dksX0_spoonOf_0 3 rfl rfl)
theorem dX0_spoonOf_4 : decode cX0_spoonOf 4 = .ok (.iaload, 1) := dk_46 (dk_at dksX0_spoonOf_0 4 rfl rfl)
theorem dX0_spoonOf_5 : decode cX0_spoonOf 5 = .ok (.istore 4, 2) := dk_54 4 (dk_at dksX0_spoonOf_0 5 rfl rfl)
theorem dX0_spoonOf_7 : decode cX0_spoonOf 7 = .ok (.iload 4, 2) := dk_21 4 (dk_at dksX0_spoonOf_0 7 rfl rfl)
theorem dX0_spoonOf_9 : decode cX0_spoonOf 9 = .ok (.iconst 2, 1) := dk_5 (dk_at dksX0_spoonOf_0 9 rfl rfl)
theorem dX0_spoonOf_10 : decode cX0_spoonOf 10 = .ok (.if_icmp .ne 5, 3) := dk_160 0 5 (dk_at dksX0_spoonOf_0 10 rfl rfl)
theorem dX0_spoonOf_13 : decode cX0_spoonOf 13 = .ok (.iconst 0, 1) := dk_3 (dk_at dksX0_spoonOf_0 13 rfl rfl)
theorem dX0_spoonOf_14 : decode cX0_spoonOf 14 = .ok (.ireturn, 1) := dk_172 (dk_at dksX0_spoonOf_0 14 rfl rfl)
theorem dX0_spoonOf_15 : decode cX0_spoonOf 15 = .ok (.aload_n 1, 1) := dk_43 (dk_at dksX0_spoonOf_0 15 rfl rfl)
theorem dX0_spoonOf_16 : decode cX0_spoonOf 16 = .ok (.iconst 0, 1) := dk_3 (dk_at dksX0_spoonOf_0 16 rfl rfl)
theorem dX0_spoonOf_17 : decode cX0_spoonOf 17 = .ok (.iconst 2, 1) := dk_5 (dk_at dksX0_spoonOf_0 17 rfl rfl)
theorem dX0_spoonOf_18 : decode cX0_spoonOf 18 = .ok (.iload 4, 2) := dk_21 4 (dk_at dksX0_spoonOf_0 18 rfl rfl)
theorem dX0_spoonOf_20 : decode cX0_spoonOf 20 = .ok (.imul, 1) := dk_104 (dk_at dksX0_spoonOf_0 20 rfl rfl)
theorem dX0_spoonOf_21 : decode cX0_spoonOf 21 = .ok (.iadd, 1) := dk_96 (dk_at dksX0_spoonOf_0 21 rfl rfl)
theorem dX0_spoonOf_22 : decode cX0_spoonOf 22 = .ok (.iload_n 3, 1) := dk_29 (dk_at dksX0_spoonOf_0 22 rfl rfl)
theorem dX0_spoonOf_23 : decode cX0_spoonOf 23 = .ok (.iadd, 1) := dk_96 (dk_at dksX0_spoonOf_0 23 rfl rfl)
theorem dX0_spoonOf_24 : decode cX0_spoonOf 24 = .ok (.iaload, 1) := dk_46 (dk_at dksX0_spoonOf_1 0 rfl rfl)
theorem dX0_spoonOf_25 : decode cX0_spoonOf 25 = .ok (.istore 5, 2) := dk_54 5 (dk_at dksX0_spoonOf_1 1 rfl rfl)
theorem dX0_spoonOf_27 : decode cX0_spoonOf 27 = .ok (.aload_n 0, 1) := dk_42 (dk_at dksX0_spoonOf_1 3 rfl rfl)
theorem dX0_spoonOf_28 : decode cX0_spoonOf 28 = .ok (.aload_n 1, 1) := dk_43 (dk_at dksX0_spoonOf_1 4 rfl rfl)
theorem dX0_spoonOf_29 : decode cX0_spoonOf 29 = .ok (.iload_n 2, 1) := dk_28 (dk_at dksX0_spoonOf_1 5 rfl rfl)
theorem dX0_spoonOf_30 : decode cX0_spoonOf 30 = .ok (.invokevirtual 115, 3) := dk_182 0 115 (dk_at dksX0_spoonOf_1 6 rfl rfl)
theorem dX0_spoonOf_33 : decode cX0_spoonOf 33 = .ok (.aload_n 0, 1) := dk_42 (dk_at dksX0_spoonOf_1 9 rfl rfl)
theorem dX0_spoonOf_34 : decode cX0_spoonOf 34 = .ok (.getfield 33, 3) := dk_180 0 33 (dk_at dksX0_spoonOf_1 10 rfl rfl)
theorem dX0_spoonOf_37 : decode cX0_spoonOf 37 = .ok (.getfield 112, 3) := dk_180 0 112 (dk_at dksX0_spoonOf_1 13 rfl rfl)
theorem dX0_spoonOf_40 : decode cX0_spoonOf 40 = .ok (.astore 6, 2) := dk_58 6 (dk_at dksX0_spoonOf_1 16 rfl rfl)
theorem dX0_spoonOf_42 : decode cX0_spoonOf 42 = .ok (.aload 6, 2) := dk_25 6 (dk_at dksX0_spoonOf_1 18 rfl rfl)
theorem dX0_spoonOf_44 : decode cX0_spoonOf 44 = .ok (.iconst 4, 1) := dk_7 (dk_at dksX0_spoonOf_1 20 rfl rfl)
theorem dX0_spoonOf_45 : decode cX0_spoonOf 45 = .ok (.iload_n 3, 1) := dk_29 (dk_at dksX0_spoonOf_1 21 rfl rfl)
theorem dX0_spoonOf_46 : decode cX0_spoonOf 46 = .ok (.iastore, 1) := dk_79 (dk_at dksX0_spoonOf_1 22 rfl rfl)
theorem dX0_spoonOf_47 : decode cX0_spoonOf 47 = .ok (.aload 6, 2) := dk_25 6 (dk_at dksX0_spoonOf_2 0 rfl rfl)
theorem dX0_spoonOf_49 : decode cX0_spoonOf 49 = .ok (.iconst 5, 1) := dk_8 (dk_at dksX0_spoonOf_2 2 rfl rfl)
theorem dX0_spoonOf_50 : decode cX0_spoonOf 50 = .ok (.iload 5, 2) := dk_21 5 (dk_at dksX0_spoonOf_2 3 rfl rfl)
theorem dX0_spoonOf_52 : decode cX0_spoonOf 52 = .ok (.iastore, 1) := dk_79 (dk_at dksX0_spoonOf_2 5 rfl rfl)
theorem dX0_spoonOf_53 : decode cX0_spoonOf 53 = .ok (.aload 6, 2) := dk_25 6 (dk_at dksX0_spoonOf_2 6 rfl rfl)
theorem dX0_spoonOf_55 : decode cX0_spoonOf 55 = .ok (.bipush 6, 2) := dk_16 6 (dk_at dksX0_spoonOf_2 8 rfl rfl)
theorem dX0_spoonOf_57 : decode cX0_spoonOf 57 = .ok (.aload_n 1, 1) := dk_43 (dk_at dksX0_spoonOf_2 10 rfl rfl)
theorem dX0_spoonOf_58 : decode cX0_spoonOf 58 = .ok (.bipush 23, 2) := dk_16 23 (dk_at dksX0_spoonOf_2 11 rfl rfl)
theorem dX0_spoonOf_60 : decode cX0_spoonOf 60 = .ok (.iaload, 1) := dk_46 (dk_at dksX0_spoonOf_2 13 rfl rfl)
theorem dX0_spoonOf_61 : decode cX0_spoonOf 61 = .ok (.iastore, 1) := dk_79 (dk_at dksX0_spoonOf_2 14 rfl rfl)
theorem dX0_spoonOf_62 : decode cX0_spoonOf 62 = .ok (.aload 6, 2) := dk_25 6 (dk_at dksX0_spoonOf_2 15 rfl rfl)
theorem dX0_spoonOf_64 : decode cX0_spoonOf 64 = .ok (.bipush 7, 2) := dk_16 7 (dk_at dksX0_spoonOf_2 17 rfl rfl)
theorem dX0_spoonOf_66 : decode cX0_spoonOf 66 = .ok (.iload 4, 2) := dk_21 4 (dk_at dksX0_spoonOf_2 19 rfl rfl)
theorem dX0_spoonOf_68 : decode cX0_spoonOf 68 = .ok (.iastore, 1) := dk_79 (dk_at dksX0_spoonOf_2 21 rfl rfl)
theorem dX0_spoonOf_69 : decode cX0_spoonOf 69 = .ok (.aload_n 0, 1) := dk_42 (dk_at dksX0_spoonOf_2 22 rfl rfl)
theorem dX0_spoonOf_70 : decode cX0_spoonOf 70 = .ok (.iconst 0, 1) := dk_3 (dk_at dksX0_spoonOf_2 23 rfl rfl)
theorem dX0_spoonOf_71 : decode cX0_spoonOf 71 = .ok (.aload_n 0, 1) := dk_42 (dk_at dksX0_spoonOf_3 0 rfl rfl)
theorem dX0_spoonOf_72 : decode cX0_spoonOf 72 = .ok (.getfield 12, 3) := dk_180 0 12 (dk_at dksX0_spoonOf_3 1 rfl rfl)
theorem dX0_spoonOf_75 : decode cX0_spoonOf 75 = .ok (.getfield 80, 3) := dk_180 0 80 (dk_at dksX0_spoonOf_3 4 rfl rfl)
theorem dX0_spoonOf_78 : decode cX0_spoonOf 78 = .ok (.iload_n 2, 1) := dk_28 (dk_at dksX0_spoonOf_3 7 rfl rfl)
theorem dX0_spoonOf_79 : decode cX0_spoonOf 79 = .ok (.iaload, 1) := dk_46 (dk_at dksX0_spoonOf_3 8 rfl rfl)
theorem dX0_spoonOf_80 : decode cX0_spoonOf 80 = .ok (.iconst 1, 1) := dk_4 (dk_at dksX0_spoonOf_3 9 rfl rfl)
theorem dX0_spoonOf_81 : decode cX0_spoonOf 81 = .ok (.iadd, 1) := dk_96 (dk_at dksX0_spoonOf_3 10 rfl rfl)
theorem dX0_spoonOf_82 : decode cX0_spoonOf 82 = .ok (.bipush 99, 2) := dk_16 99 (dk_at dksX0_spoonOf_3 11 rfl rfl)
theorem dX0_spoonOf_84 : decode cX0_spoonOf 84 = .ok (.invokevirtual 119, 3) := dk_182 0 119 (dk_at dksX0_spoonOf_3 13 rfl rfl)
theorem dX0_spoonOf_87 : decode cX0_spoonOf 87 = .ok (.istore 7, 2) := dk_54 7 (dk_at dksX0_spoonOf_3 16 rfl rfl)
theorem dX0_spoonOf_89 : decode cX0_spoonOf 89 = .ok (.iload 7, 2) := dk_21 7 (dk_at dksX0_spoonOf_3 18 rfl rfl)
theorem dX0_spoonOf_91 : decode cX0_spoonOf 91 = .ok (.iload 5, 2) := dk_21 5 (dk_at dksX0_spoonOf_3 20 rfl rfl)
theorem dX0_spoonOf_93 : decode cX0_spoonOf 93 = .ok (.invokestatic 126, 3) := dk_184 0 126 (dk_at dksX0_spoonOf_4 0 rfl rfl)
theorem dX0_spoonOf_96 : decode cX0_spoonOf 96 = .ok (.aload_n 0, 1) := dk_42 (dk_at dksX0_spoonOf_4 3 rfl rfl)
theorem dX0_spoonOf_97 : decode cX0_spoonOf 97 = .ok (.aload_n 1, 1) := dk_43 (dk_at dksX0_spoonOf_4 4 rfl rfl)
theorem dX0_spoonOf_98 : decode cX0_spoonOf 98 = .ok (.iload_n 2, 1) := dk_28 (dk_at dksX0_spoonOf_4 5 rfl rfl)
theorem dX0_spoonOf_99 : decode cX0_spoonOf 99 = .ok (.invokevirtual 128, 3) := dk_182 0 128 (dk_at dksX0_spoonOf_4 6 rfl rfl)
theorem dX0_spoonOf_102 : decode cX0_spoonOf 102 = .ok (.invokestatic 126, 3) := dk_184 0 126 (dk_at dksX0_spoonOf_4 9 rfl rfl)
theorem dX0_spoonOf_105 : decode cX0_spoonOf 105 = .ok (.ireturn, 1) := dk_172 (dk_at dksX0_spoonOf_4 12 rfl rfl)
abbrev cX0_name : ByteArray := prog_1_method_11_code
def yX0_name : MethodName := ⟨RX0, "name", "([II)V"⟩
def dkwX0_name_1 : List UInt8 := [45, 5, 42, 180, 0, 12, 180, 0, 83, 28, 46, 79, 45, 6, 43, 16, 13, 28, 96, 46, 79, 177]
abbrev dktX0_name_1 : List UInt8 := dkwX0_name_1 ++ []
def dkwX0_name_0 : List UInt8 := [42, 180, 0, 33, 180, 0, 112, 78, 45, 3, 28, 79, 45, 4, 42, 180, 0, 12, 180, 0, 80, 28, 46, 79]
abbrev dktX0_name_0 : List UInt8 := dkwX0_name_0 ++ dktX0_name_1
theorem dksX0_name_0 : cX0_name.data.toList.drop 0 = dktX0_name_0 := by decide +kernel
theorem dksX0_name_1 : cX0_name.data.toList.drop 24 = dktX0_name_1 := dk_seg dksX0_name_0 24 rfl rfl
theorem dX0_name_0 : decode cX0_name 0 = .ok (.aload_n 0, 1) := dk_42 (dk_at dksX0_name_0 0 rfl rfl)
theorem dX0_name_1 : decode cX0_name 1 = .ok (.getfield 33, 3) := dk_180 0 33 (dk_at dksX0_name_0 1 rfl rfl)
theorem dX0_name_4 : decode cX0_name 4 = .ok (.getfield 112, 3) := dk_180 0 112 (dk_at dksX0_name_0 4 rfl rfl)
theorem dX0_name_7 : decode cX0_name 7 = .ok (.astore_n 3, 1) := dk_78 (dk_at dksX0_name_0 7 rfl rfl)
theorem dX0_name_8 : decode cX0_name 8 = .ok (.aload_n 3, 1) := dk_45 (dk_at dksX0_name_0 8 rfl rfl)
theorem dX0_name_9 : decode cX0_name 9 = .ok (.iconst 0, 1) := dk_3 (dk_at dksX0_name_0 9 rfl rfl)
theorem dX0_name_10 : decode cX0_name 10 = .ok (.iload_n 2, 1) := dk_28 (dk_at dksX0_name_0 10 rfl rfl)
theorem dX0_name_11 : decode cX0_name 11 = .ok (.iastore, 1) := dk_79 (dk_at dksX0_name_0 11 rfl rfl)
theorem dX0_name_12 : decode cX0_name 12 = .ok (.aload_n 3, 1) := dk_45 (dk_at dksX0_name_0 12 rfl rfl)
theorem dX0_name_13 : decode cX0_name 13 = .ok (.iconst 1, 1) := dk_4 (dk_at dksX0_name_0 13 rfl rfl)
theorem dX0_name_14 : decode cX0_name 14 = .ok (.aload_n 0, 1) := dk_42 (dk_at dksX0_name_0 14 rfl rfl)
theorem dX0_name_15 : decode cX0_name 15 = .ok (.getfield 12, 3) := dk_180 0 12 (dk_at dksX0_name_0 15 rfl rfl)
theorem dX0_name_18 : decode cX0_name 18 = .ok (.getfield 80, 3) := dk_180 0 80 (dk_at dksX0_name_0 18 rfl rfl)
theorem dX0_name_21 : decode cX0_name 21 = .ok (.iload_n 2, 1) := dk_28 (dk_at dksX0_name_0 21 rfl rfl)
theorem dX0_name_22 : decode cX0_name 22 = .ok (.iaload, 1) := dk_46 (dk_at dksX0_name_0 22 rfl rfl)
theorem dX0_name_23 : decode cX0_name 23 = .ok (.iastore, 1) := dk_79 (dk_at dksX0_name_0 23 rfl rfl)
theorem dX0_name_24 : decode cX0_name 24 = .ok (.aload_n 3, 1) := dk_45 (dk_at dksX0_name_1 0 rfl rfl)
theorem dX0_name_25 : decode cX0_name 25 = .ok (.iconst 2, 1) := dk_5 (dk_at dksX0_name_1 1 rfl rfl)
theorem dX0_name_26 : decode cX0_name 26 = .ok (.aload_n 0, 1) := dk_42 (dk_at dksX0_name_1 2 rfl rfl)
theorem dX0_name_27 : decode cX0_name 27 = .ok (.getfield 12, 3) := dk_180 0 12 (dk_at dksX0_name_1 3 rfl rfl)
theorem dX0_name_30 : decode cX0_name 30 = .ok (.getfield 83, 3) := dk_180 0 83 (dk_at dksX0_name_1 6 rfl rfl)
theorem dX0_name_33 : decode cX0_name 33 = .ok (.iload_n 2, 1) := dk_28 (dk_at dksX0_name_1 9 rfl rfl)
theorem dX0_name_34 : decode cX0_name 34 = .ok (.iaload, 1) := dk_46 (dk_at dksX0_name_1 10 rfl rfl)
theorem dX0_name_35 : decode cX0_name 35 = .ok (.iastore, 1) := dk_79 (dk_at dksX0_name_1 11 rfl rfl)
theorem dX0_name_36 : decode cX0_name 36 = .ok (.aload_n 3, 1) := dk_45 (dk_at dksX0_name_1 12 rfl rfl)
theorem dX0_name_37 : decode cX0_name 37 = .ok (.iconst 3, 1) := dk_6 (dk_at dksX0_name_1 13 rfl rfl)
theorem dX0_name_38 : decode cX0_name 38 = .ok (.aload_n 1, 1) := dk_43 (dk_at dksX0_name_1 14 rfl rfl)
theorem dX0_name_39 : decode cX0_name 39 = .ok (.bipush 13, 2) := dk_16 13 (dk_at dksX0_name_1 15 rfl rfl)
theorem dX0_name_41 : decode cX0_name 41 = .ok (.iload_n 2, 1) := dk_28 (dk_at dksX0_name_1 17 rfl rfl)
theorem dX0_name_42 : decode cX0_name 42 = .ok (.iadd, 1) := dk_96 (dk_at dksX0_name_1 18 rfl rfl)
theorem dX0_name_43 : decode cX0_name 43 = .ok (.iaload, 1) := dk_46 (dk_at dksX0_name_1 19 rfl rfl)
theorem dX0_name_44 : decode cX0_name 44 = .ok (.iastore, 1) := dk_79 (dk_at dksX0_name_1 20 rfl rfl)
theorem dX0_name_45 : decode cX0_name 45 = .ok (.return_, 1) := dk_177 (dk_at dksX0_name_1 21 rfl rfl)
abbrev cX0_told : ByteArray := prog_1_method_10_code
def yX0_told : MethodName := ⟨RX0, "told", "(III)I"⟩
def dkwX0_told_1 : List UInt8 := [25, 4, 42, 180, 0, 33, 185, 0, 97, 2, 0, 184, 0, 103, 184, 0, 109, 136, 172]
abbrev dktX0_told_1 : List UInt8 := dkwX0_told_1 ++ []
def dkwX0_told_0 : List UInt8 := [42, 182, 0, 89, 180, 0, 93, 27, 50, 58, 4, 25, 4, 199, 0, 7, 28, 167, 0, 24, 9, 29, 133]
abbrev dktX0_told_0 : List UInt8 := dkwX0_told_0 ++ dktX0_told_1
theorem dksX0_told_0 : cX0_told.data.toList.drop 0 = dktX0_told_0 := by decide +kernel
theorem dksX0_told_1 : cX0_told.data.toList.drop 23 = dktX0_told_1 := dk_seg dksX0_told_0 23 rfl rfl
theorem dX0_told_0 : decode cX0_told 0 = .ok (.aload_n 0, 1) := dk_42 (dk_at dksX0_told_0 0 rfl rfl)
theorem dX0_told_1 : decode cX0_told 1 = .ok (.invokevirtual 89, 3) := dk_182 0 89 (dk_at dksX0_told_0 1 rfl rfl)
theorem dX0_told_4 : decode cX0_told 4 = .ok (.getfield 93, 3) := dk_180 0 93 (dk_at dksX0_told_0 4 rfl rfl)
theorem dX0_told_7 : decode cX0_told 7 = .ok (.iload_n 1, 1) := dk_27 (dk_at dksX0_told_0 7 rfl rfl)
theorem dX0_told_8 : decode cX0_told 8 = .ok (.aaload, 1) := dk_50 (dk_at dksX0_told_0 8 rfl rfl)
theorem dX0_told_9 : decode cX0_told 9 = .ok (.astore 4, 2) := dk_58 4 (dk_at dksX0_told_0 9 rfl rfl)
theorem dX0_told_11 : decode cX0_told 11 = .ok (.aload 4, 2) := dk_25 4 (dk_at dksX0_told_0 11 rfl rfl)
theorem dX0_told_13 : decode cX0_told 13 = .ok (.ifnonnull 7, 3) := dk_199 0 7 (dk_at dksX0_told_0 13 rfl rfl)
theorem dX0_told_16 : decode cX0_told 16 = .ok (.iload_n 2, 1) := dk_28 (dk_at dksX0_told_0 16 rfl rfl)
theorem dX0_told_17 : decode cX0_told 17 = .ok (.goto 24, 3) := dk_167 0 24 (dk_at dksX0_told_0 17 rfl rfl)
theorem dX0_told_20 : decode cX0_told 20 = .ok (.lconst 0, 1) := dk_9 (dk_at dksX0_told_0 20 rfl rfl)
theorem dX0_told_21 : decode cX0_told 21 = .ok (.iload_n 3, 1) := dk_29 (dk_at dksX0_told_0 21 rfl rfl)
theorem dX0_told_22 : decode cX0_told 22 = .ok (.i2l, 1) := dk_133 (dk_at dksX0_told_0 22 rfl rfl)
theorem dX0_told_23 : decode cX0_told 23 = .ok (.aload 4, 2) := dk_25 4 (dk_at dksX0_told_1 0 rfl rfl)
theorem dX0_told_25 : decode cX0_told 25 = .ok (.aload_n 0, 1) := dk_42 (dk_at dksX0_told_1 2 rfl rfl)
theorem dX0_told_26 : decode cX0_told 26 = .ok (.getfield 33, 3) := dk_180 0 33 (dk_at dksX0_told_1 3 rfl rfl)
theorem dX0_told_29 : decode cX0_told 29 = .ok (.invokeinterface 97 2, 5) := by decide +kernel
theorem dX0_told_34 : decode cX0_told 34 = .ok (.invokestatic 103, 3) := dk_184 0 103 (dk_at dksX0_told_1 11 rfl rfl)
theorem dX0_told_37 : decode cX0_told 37 = .ok (.invokestatic 109, 3) := dk_184 0 109 (dk_at dksX0_told_1 14 rfl rfl)
theorem dX0_told_40 : decode cX0_told 40 = .ok (.l2i, 1) := dk_136 (dk_at dksX0_told_1 17 rfl rfl)
theorem dX0_told_41 : decode cX0_told 41 = .ok (.ireturn, 1) := dk_172 (dk_at dksX0_told_1 18 rfl rfl)
abbrev cX0_law : ByteArray := prog_1_method_3_code
def yX0_law : MethodName := ⟨RX0, "law", "()LSpoonScales$Law;"⟩
def dkwX0_law_1 : List UInt8 := [180, 0, 12, 180, 0, 60, 50, 176]
abbrev dktX0_law_1 : List UInt8 := dkwX0_law_1 ++ []
def dkwX0_law_0 : List UInt8 := [42, 180, 0, 12, 180, 0, 60, 156, 0, 10, 42, 180, 0, 26, 167, 0, 15, 42, 180, 0, 21, 42]
abbrev dktX0_law_0 : List UInt8 := dkwX0_law_0 ++ dktX0_law_1
theorem dksX0_law_0 : cX0_law.data.toList.drop 0 = dktX0_law_0 := by decide +kernel
theorem dksX0_law_1 : cX0_law.data.toList.drop 22 = dktX0_law_1 := dk_seg dksX0_law_0 22 rfl rfl
theorem dX0_law_0 : decode cX0_law 0 = .ok (.aload_n 0, 1) := dk_42 (dk_at dksX0_law_0 0 rfl rfl)
theorem dX0_law_1 : decode cX0_law 1 = .ok (.getfield 12, 3) := dk_180 0 12 (dk_at dksX0_law_0 1 rfl rfl)
theorem dX0_law_4 : decode cX0_law 4 = .ok (.getfield 60, 3) := dk_180 0 60 (dk_at dksX0_law_0 4 rfl rfl)
theorem dX0_law_7 : decode cX0_law 7 = .ok (.ifCond .ge 10, 3) := dk_156 0 10 (dk_at dksX0_law_0 7 rfl rfl)
theorem dX0_law_10 : decode cX0_law 10 = .ok (.aload_n 0, 1) := dk_42 (dk_at dksX0_law_0 10 rfl rfl)
theorem dX0_law_11 : decode cX0_law 11 = .ok (.getfield 26, 3) := dk_180 0 26 (dk_at dksX0_law_0 11 rfl rfl)
theorem dX0_law_14 : decode cX0_law 14 = .ok (.goto 15, 3) := dk_167 0 15 (dk_at dksX0_law_0 14 rfl rfl)
theorem dX0_law_17 : decode cX0_law 17 = .ok (.aload_n 0, 1) := dk_42 (dk_at dksX0_law_0 17 rfl rfl)
theorem dX0_law_18 : decode cX0_law 18 = .ok (.getfield 21, 3) := dk_180 0 21 (dk_at dksX0_law_0 18 rfl rfl)
theorem dX0_law_21 : decode cX0_law 21 = .ok (.aload_n 0, 1) := dk_42 (dk_at dksX0_law_0 21 rfl rfl)
theorem dX0_law_22 : decode cX0_law 22 = .ok (.getfield 12, 3) := dk_180 0 12 (dk_at dksX0_law_1 0 rfl rfl)
theorem dX0_law_25 : decode cX0_law 25 = .ok (.getfield 60, 3) := dk_180 0 60 (dk_at dksX0_law_1 3 rfl rfl)
theorem dX0_law_28 : decode cX0_law 28 = .ok (.aaload, 1) := dk_50 (dk_at dksX0_law_1 6 rfl rfl)
theorem dX0_law_29 : decode cX0_law 29 = .ok (.areturn, 1) := dk_176 (dk_at dksX0_law_1 7 rfl rfl)
abbrev cX0_holds : ByteArray := prog_1_method_12_code
def yX0_holds : MethodName := ⟨RX0, "holds", "([II)I"⟩
def dkwX0_holds_1 : List UInt8 := [182, 0, 119, 43, 16, 13, 28, 96, 46, 100, 184, 0, 123, 172]
abbrev dktX0_holds_1 : List UInt8 := dkwX0_holds_1 ++ []
def dkwX0_holds_0 : List UInt8 := [42, 43, 28, 182, 0, 115, 3, 42, 4, 16, 20, 42, 180, 0, 12, 180, 0, 83, 28, 46, 104, 17, 39, 15]
abbrev dktX0_holds_0 : List UInt8 := dkwX0_holds_0 ++ dktX0_holds_1
theorem dksX0_holds_0 : cX0_holds.data.toList.drop 0 = dktX0_holds_0 := by decide +kernel
theorem dksX0_holds_1 : cX0_holds.data.toList.drop 24 = dktX0_holds_1 := dk_seg dksX0_holds_0 24 rfl rfl
theorem dX0_holds_0 : decode cX0_holds 0 = .ok (.aload_n 0, 1) := dk_42 (dk_at dksX0_holds_0 0 rfl rfl)
theorem dX0_holds_1 : decode cX0_holds 1 = .ok (.aload_n 1, 1) := dk_43 (dk_at dksX0_holds_0 1 rfl rfl)
theorem dX0_holds_2 : decode cX0_holds 2 = .ok (.iload_n 2, 1) := dk_28 (dk_at dksX0_holds_0 2 rfl rfl)
theorem dX0_holds_3 : decode cX0_holds 3 = .ok (.invokevirtual 115, 3) := dk_182 0 115 (dk_at dksX0_holds_0 3 rfl rfl)
theorem dX0_holds_6 : decode cX0_holds 6 = .ok (.iconst 0, 1) := dk_3 (dk_at dksX0_holds_0 6 rfl rfl)
theorem dX0_holds_7 : decode cX0_holds 7 = .ok (.aload_n 0, 1) := dk_42 (dk_at dksX0_holds_0 7 rfl rfl)
theorem dX0_holds_8 : decode cX0_holds 8 = .ok (.iconst 1, 1) := dk_4 (dk_at dksX0_holds_0 8 rfl rfl)
theorem dX0_holds_9 : decode cX0_holds 9 = .ok (.bipush 20, 2) := dk_16 20 (dk_at dksX0_holds_0 9 rfl rfl)
theorem dX0_holds_11 : decode cX0_holds 11 = .ok (.aload_n 0, 1) := dk_42 (dk_at dksX0_holds_0 11 rfl rfl)
theorem dX0_holds_12 : decode cX0_holds 12 = .ok (.getfield 12, 3) := dk_180 0 12 (dk_at dksX0_holds_0 12 rfl rfl)
theorem dX0_holds_15 : decode cX0_holds 15 = .ok (.getfield 83, 3) := dk_180 0 83 (dk_at dksX0_holds_0 15 rfl rfl)
theorem dX0_holds_18 : decode cX0_holds 18 = .ok (.iload_n 2, 1) := dk_28 (dk_at dksX0_holds_0 18 rfl rfl)
theorem dX0_holds_19 : decode cX0_holds 19 = .ok (.iaload, 1) := dk_46 (dk_at dksX0_holds_0 19 rfl rfl)
theorem dX0_holds_20 : decode cX0_holds 20 = .ok (.imul, 1) := dk_104 (dk_at dksX0_holds_0 20 rfl rfl)
theorem dX0_holds_21 : decode cX0_holds 21 = .ok (.sipush 9999, 3) := dk_17 39 15 (dk_at dksX0_holds_0 21 rfl rfl)
theorem dX0_holds_24 : decode cX0_holds 24 = .ok (.invokevirtual 119, 3) := dk_182 0 119 (dk_at dksX0_holds_1 0 rfl rfl)
theorem dX0_holds_27 : decode cX0_holds 27 = .ok (.aload_n 1, 1) := dk_43 (dk_at dksX0_holds_1 3 rfl rfl)
theorem dX0_holds_28 : decode cX0_holds 28 = .ok (.bipush 13, 2) := dk_16 13 (dk_at dksX0_holds_1 4 rfl rfl)
theorem dX0_holds_30 : decode cX0_holds 30 = .ok (.iload_n 2, 1) := dk_28 (dk_at dksX0_holds_1 6 rfl rfl)
theorem dX0_holds_31 : decode cX0_holds 31 = .ok (.iadd, 1) := dk_96 (dk_at dksX0_holds_1 7 rfl rfl)
theorem dX0_holds_32 : decode cX0_holds 32 = .ok (.iaload, 1) := dk_46 (dk_at dksX0_holds_1 8 rfl rfl)
theorem dX0_holds_33 : decode cX0_holds 33 = .ok (.isub, 1) := dk_100 (dk_at dksX0_holds_1 9 rfl rfl)
theorem dX0_holds_34 : decode cX0_holds 34 = .ok (.invokestatic 123, 3) := dk_184 0 123 (dk_at dksX0_holds_1 10 rfl rfl)
theorem dX0_holds_37 : decode cX0_holds 37 = .ok (.ireturn, 1) := dk_172 (dk_at dksX0_holds_1 13 rfl rfl)
abbrev cX0_eat : ByteArray := prog_1_method_16_code
def yX0_eat : MethodName := ⟨RX0, "eat", "([III)I"⟩
def dkwX0_eat_2 : List UInt8 := [92, 46, 4, 96, 79, 21, 4, 172]
abbrev dktX0_eat_2 : List UInt8 := dkwX0_eat_2 ++ []
def dkwX0_eat_1 : List UInt8 := [104, 96, 29, 96, 92, 46, 21, 4, 100, 79, 43, 16, 13, 28, 96, 92, 46, 21, 4, 96, 79, 43, 16, 23]
abbrev dktX0_eat_1 : List UInt8 := dkwX0_eat_1 ++ dktX0_eat_2
def dkwX0_eat_0 : List UInt8 := [42, 43, 28, 29, 182, 0, 146, 54, 4, 21, 4, 154, 0, 5, 3, 172, 43, 3, 5, 43, 7, 28, 96, 46]
abbrev dktX0_eat_0 : List UInt8 := dkwX0_eat_0 ++ dktX0_eat_1
theorem dksX0_eat_0 : cX0_eat.data.toList.drop 0 = dktX0_eat_0 := by decide +kernel
theorem dksX0_eat_1 : cX0_eat.data.toList.drop 24 = dktX0_eat_1 := dk_seg dksX0_eat_0 24 rfl rfl
theorem dksX0_eat_2 : cX0_eat.data.toList.drop 48 = dktX0_eat_2 := dk_seg dksX0_eat_1 24 rfl rfl
theorem dX0_eat_0 : decode cX0_eat 0 = .ok (.aload_n 0, 1) := dk_42 (dk_at dksX0_eat_0 0 rfl rfl)
theorem dX0_eat_1 : decode cX0_eat 1 = .ok (.aload_n 1, 1) := dk_43 (dk_at dksX0_eat_0 1 rfl rfl)
theorem dX0_eat_2 : decode cX0_eat 2 = .ok (.iload_n 2, 1) := dk_28 (dk_at dksX0_eat_0 2 rfl rfl)
theorem dX0_eat_3 : decode cX0_eat 3 = .ok (.iload_n 3, 1) := dk_29 (dk_at dksX0_eat_0 3 rfl rfl)
theorem dX0_eat_4 : decode cX0_eat 4 = .ok (.invokevirtual 146, 3) := dk_182 0 146 (dk_at dksX0_eat_0 4 rfl rfl)
theorem dX0_eat_7 : decode cX0_eat 7 = .ok (.istore 4, 2) := dk_54 4 (dk_at dksX0_eat_0 7 rfl rfl)
theorem dX0_eat_9 : decode cX0_eat 9 = .ok (.iload 4, 2) := dk_21 4 (dk_at dksX0_eat_0 9 rfl rfl)
theorem dX0_eat_11 : decode cX0_eat 11 = .ok (.ifCond .ne 5, 3) := dk_154 0 5 (dk_at dksX0_eat_0 11 rfl rfl)
theorem dX0_eat_14 : decode cX0_eat 14 = .ok (.iconst 0, 1) := dk_3 (dk_at dksX0_eat_0 14 rfl rfl)
theorem dX0_eat_15 : decode cX0_eat 15 = .ok (.ireturn, 1) := dk_172 (dk_at dksX0_eat_0 15 rfl rfl)
theorem dX0_eat_16 : decode cX0_eat 16 = .ok (.aload_n 1, 1) := dk_43 (dk_at dksX0_eat_0 16 rfl rfl)
theorem dX0_eat_17 : decode cX0_eat 17 = .ok (.iconst 0, 1) := dk_3 (dk_at dksX0_eat_0 17 rfl rfl)
theorem dX0_eat_18 : decode cX0_eat 18 = .ok (.iconst 2, 1) := dk_5 (dk_at dksX0_eat_0 18 rfl rfl)
theorem dX0_eat_19 : decode cX0_eat 19 = .ok (.aload_n 1, 1) := dk_43 (dk_at dksX0_eat_0 19 rfl rfl)
theorem dX0_eat_20 : decode cX0_eat 20 = .ok (.iconst 4, 1) := dk_7 (dk_at dksX0_eat_0 20 rfl rfl)
theorem dX0_eat_21 : decode cX0_eat 21 = .ok (.iload_n 2, 1) := dk_28 (dk_at dksX0_eat_0 21 rfl rfl)
theorem dX0_eat_22 : decode cX0_eat 22 = .ok (.iadd, 1) := dk_96 (dk_at dksX0_eat_0 22 rfl rfl)
theorem dX0_eat_23 : decode cX0_eat 23 = .ok (.iaload, 1) := dk_46 (dk_at dksX0_eat_0 23 rfl rfl)
theorem dX0_eat_24 : decode cX0_eat 24 = .ok (.imul, 1) := dk_104 (dk_at dksX0_eat_1 0 rfl rfl)
theorem dX0_eat_25 : decode cX0_eat 25 = .ok (.iadd, 1) := dk_96 (dk_at dksX0_eat_1 1 rfl rfl)
theorem dX0_eat_26 : decode cX0_eat 26 = .ok (.iload_n 3, 1) := dk_29 (dk_at dksX0_eat_1 2 rfl rfl)
theorem dX0_eat_27 : decode cX0_eat 27 = .ok (.iadd, 1) := dk_96 (dk_at dksX0_eat_1 3 rfl rfl)
theorem dX0_eat_28 : decode cX0_eat 28 = .ok (.dup2, 1) := dk_92 (dk_at dksX0_eat_1 4 rfl rfl)
theorem dX0_eat_29 : decode cX0_eat 29 = .ok (.iaload, 1) := dk_46 (dk_at dksX0_eat_1 5 rfl rfl)
theorem dX0_eat_30 : decode cX0_eat 30 = .ok (.iload 4, 2) := dk_21 4 (dk_at dksX0_eat_1 6 rfl rfl)
theorem dX0_eat_32 : decode cX0_eat 32 = .ok (.isub, 1) := dk_100 (dk_at dksX0_eat_1 8 rfl rfl)
theorem dX0_eat_33 : decode cX0_eat 33 = .ok (.iastore, 1) := dk_79 (dk_at dksX0_eat_1 9 rfl rfl)
theorem dX0_eat_34 : decode cX0_eat 34 = .ok (.aload_n 1, 1) := dk_43 (dk_at dksX0_eat_1 10 rfl rfl)
theorem dX0_eat_35 : decode cX0_eat 35 = .ok (.bipush 13, 2) := dk_16 13 (dk_at dksX0_eat_1 11 rfl rfl)
theorem dX0_eat_37 : decode cX0_eat 37 = .ok (.iload_n 2, 1) := dk_28 (dk_at dksX0_eat_1 13 rfl rfl)
theorem dX0_eat_38 : decode cX0_eat 38 = .ok (.iadd, 1) := dk_96 (dk_at dksX0_eat_1 14 rfl rfl)
theorem dX0_eat_39 : decode cX0_eat 39 = .ok (.dup2, 1) := dk_92 (dk_at dksX0_eat_1 15 rfl rfl)
theorem dX0_eat_40 : decode cX0_eat 40 = .ok (.iaload, 1) := dk_46 (dk_at dksX0_eat_1 16 rfl rfl)
theorem dX0_eat_41 : decode cX0_eat 41 = .ok (.iload 4, 2) := dk_21 4 (dk_at dksX0_eat_1 17 rfl rfl)
theorem dX0_eat_43 : decode cX0_eat 43 = .ok (.iadd, 1) := dk_96 (dk_at dksX0_eat_1 19 rfl rfl)
theorem dX0_eat_44 : decode cX0_eat 44 = .ok (.iastore, 1) := dk_79 (dk_at dksX0_eat_1 20 rfl rfl)
theorem dX0_eat_45 : decode cX0_eat 45 = .ok (.aload_n 1, 1) := dk_43 (dk_at dksX0_eat_1 21 rfl rfl)
theorem dX0_eat_46 : decode cX0_eat 46 = .ok (.bipush 23, 2) := dk_16 23 (dk_at dksX0_eat_1 22 rfl rfl)
theorem dX0_eat_48 : decode cX0_eat 48 = .ok (.dup2, 1) := dk_92 (dk_at dksX0_eat_2 0 rfl rfl)
theorem dX0_eat_49 : decode cX0_eat 49 = .ok (.iaload, 1) := dk_46 (dk_at dksX0_eat_2 1 rfl rfl)
theorem dX0_eat_50 : decode cX0_eat 50 = .ok (.iconst 1, 1) := dk_4 (dk_at dksX0_eat_2 2 rfl rfl)
theorem dX0_eat_51 : decode cX0_eat 51 = .ok (.iadd, 1) := dk_96 (dk_at dksX0_eat_2 3 rfl rfl)
theorem dX0_eat_52 : decode cX0_eat 52 = .ok (.iastore, 1) := dk_79 (dk_at dksX0_eat_2 4 rfl rfl)
theorem dX0_eat_53 : decode cX0_eat 53 = .ok (.iload 4, 2) := dk_21 4 (dk_at dksX0_eat_2 5 rfl rfl)
theorem dX0_eat_55 : decode cX0_eat 55 = .ok (.ireturn, 1) := dk_172 (dk_at dksX0_eat_2 7 rfl rfl)
abbrev cX0_judge : ByteArray := prog_1_method_19_code
def yX0_judge : MethodName := ⟨RX0, "judge", "(I)I"⟩
def dkwX0_judge_4 : List UInt8 := [28, 79, 28, 172]
abbrev dktX0_judge_4 : List UInt8 := dkwX0_judge_4 ++ []
def dkwX0_judge_3 : List UInt8 := [4, 96, 79, 50, 78, 45, 3, 27, 79, 45, 4, 42, 180, 0, 12, 180, 0, 77, 184, 0, 132, 79, 45, 5]
abbrev dktX0_judge_3 : List UInt8 := dkwX0_judge_3 ++ dktX0_judge_4
def dkwX0_judge_2 : List UInt8 := [167, 0, 4, 3, 61, 42, 180, 0, 12, 180, 0, 166, 42, 180, 0, 12, 180, 0, 77, 16, 24, 92, 46, 91]
abbrev dktX0_judge_2 : List UInt8 := dkwX0_judge_2 ++ dktX0_judge_3
def dkwX0_judge_1 : List UInt8 := [42, 180, 0, 12, 182, 0, 153, 42, 42, 180, 0, 12, 180, 0, 77, 27, 182, 0, 162, 153, 0, 7, 4]
abbrev dktX0_judge_1 : List UInt8 := dkwX0_judge_1 ++ dktX0_judge_2
def dkwX0_judge_0 : List UInt8 := [27, 184, 0, 70, 153, 0, 18, 42, 180, 0, 12, 180, 0, 77, 16, 24, 46, 16, 30, 160, 0, 5, 2, 172]
abbrev dktX0_judge_0 : List UInt8 := dkwX0_judge_0 ++ dktX0_judge_1
theorem dksX0_judge_0 : cX0_judge.data.toList.drop 0 = dktX0_judge_0 := by decide +kernel
theorem dksX0_judge_1 : cX0_judge.data.toList.drop 24 = dktX0_judge_1 := dk_seg dksX0_judge_0 24 rfl rfl
theorem dksX0_judge_2 : cX0_judge.data.toList.drop 47 = dktX0_judge_2 := dk_seg dksX0_judge_1 23 rfl rfl
theorem dksX0_judge_3 : cX0_judge.data.toList.drop 71 = dktX0_judge_3 := dk_seg dksX0_judge_2 24 rfl rfl
theorem dksX0_judge_4 : cX0_judge.data.toList.drop 95 = dktX0_judge_4 := dk_seg dksX0_judge_3 24 rfl rfl
theorem dX0_judge_0 : decode cX0_judge 0 = .ok (.iload_n 1, 1) := dk_27 (dk_at dksX0_judge_0 0 rfl rfl)
theorem dX0_judge_1 : decode cX0_judge 1 = .ok (.invokestatic 70, 3) := dk_184 0 70 (dk_at dksX0_judge_0 1 rfl rfl)
theorem dX0_judge_4 : decode cX0_judge 4 = .ok (.ifCond .eq 18, 3) := dk_153 0 18 (dk_at dksX0_judge_0 4 rfl rfl)
theorem dX0_judge_7 : decode cX0_judge 7 = .ok (.aload_n 0, 1) := dk_42 (dk_at dksX0_judge_0 7 rfl rfl)
theorem dX0_judge_8 : decode cX0_judge 8 = .ok (.getfield 12, 3) := dk_180 0 12 (dk_at dksX0_judge_0 8 rfl rfl)
theorem dX0_judge_11 : decode cX0_judge 11 = .ok (.getfield 77, 3) := dk_180 0 77 (dk_at dksX0_judge_0 11 rfl rfl)
theorem dX0_judge_14 : decode cX0_judge 14 = .ok (.bipush 24, 2) := dk_16 24 (dk_at dksX0_judge_0 14 rfl rfl)
theorem dX0_judge_16 : decode cX0_judge 16 = .ok (.iaload, 1) := dk_46 (dk_at dksX0_judge_0 16 rfl rfl)
theorem dX0_judge_17 : decode cX0_judge 17 = .ok (.bipush 30, 2) := dk_16 30 (dk_at dksX0_judge_0 17 rfl rfl)
theorem dX0_judge_19 : decode cX0_judge 19 = .ok (.if_icmp .ne 5, 3) := dk_160 0 5 (dk_at dksX0_judge_0 19 rfl rfl)
theorem dX0_judge_22 : decode cX0_judge 22 = .ok (.iconst (-1), 1) := dk_2 (dk_at dksX0_judge_0 22 rfl rfl)
theorem dX0_judge_23 : decode cX0_judge 23 = .ok (.ireturn, 1) := dk_172 (dk_at dksX0_judge_0 23 rfl rfl)
theorem dX0_judge_24 : decode cX0_judge 24 = .ok (.aload_n 0, 1) := dk_42 (dk_at dksX0_judge_1 0 rfl rfl)
theorem dX0_judge_25 : decode cX0_judge 25 = .ok (.getfield 12, 3) := dk_180 0 12 (dk_at dksX0_judge_1 1 rfl rfl)
theorem dX0_judge_28 : decode cX0_judge 28 = .ok (.invokevirtual 153, 3) := dk_182 0 153 (dk_at dksX0_judge_1 4 rfl rfl)
theorem dX0_judge_31 : decode cX0_judge 31 = .ok (.aload_n 0, 1) := dk_42 (dk_at dksX0_judge_1 7 rfl rfl)
theorem dX0_judge_32 : decode cX0_judge 32 = .ok (.aload_n 0, 1) := dk_42 (dk_at dksX0_judge_1 8 rfl rfl)
theorem dX0_judge_33 : decode cX0_judge 33 = .ok (.getfield 12, 3) := dk_180 0 12 (dk_at dksX0_judge_1 9 rfl rfl)
theorem dX0_judge_36 : decode cX0_judge 36 = .ok (.getfield 77, 3) := dk_180 0 77 (dk_at dksX0_judge_1 12 rfl rfl)
theorem dX0_judge_39 : decode cX0_judge 39 = .ok (.iload_n 1, 1) := dk_27 (dk_at dksX0_judge_1 15 rfl rfl)
theorem dX0_judge_40 : decode cX0_judge 40 = .ok (.invokevirtual 162, 3) := dk_182 0 162 (dk_at dksX0_judge_1 16 rfl rfl)
theorem dX0_judge_43 : decode cX0_judge 43 = .ok (.ifCond .eq 7, 3) := dk_153 0 7 (dk_at dksX0_judge_1 19 rfl rfl)
theorem dX0_judge_46 : decode cX0_judge 46 = .ok (.iconst 1, 1) := dk_4 (dk_at dksX0_judge_1 22 rfl rfl)
theorem dX0_judge_47 : decode cX0_judge 47 = .ok (.goto 4, 3) := dk_167 0 4 (dk_at dksX0_judge_2 0 rfl rfl)
theorem dX0_judge_50 : decode cX0_judge 50 = .ok (.iconst 0, 1) := dk_3 (dk_at dksX0_judge_2 3 rfl rfl)
theorem dX0_judge_51 : decode cX0_judge 51 = .ok (.istore_n 2, 1) := dk_61 (dk_at dksX0_judge_2 4 rfl rfl)
theorem dX0_judge_52 : decode cX0_judge 52 = .ok (.aload_n 0, 1) := dk_42 (dk_at dksX0_judge_2 5 rfl rfl)
theorem dX0_judge_53 : decode cX0_judge 53 = .ok (.getfield 12, 3) := dk_180 0 12 (dk_at dksX0_judge_2 6 rfl rfl)
theorem dX0_judge_56 : decode cX0_judge 56 = .ok (.getfield 166, 3) := dk_180 0 166 (dk_at dksX0_judge_2 9 rfl rfl)
theorem dX0_judge_59 : decode cX0_judge 59 = .ok (.aload_n 0, 1) := dk_42 (dk_at dksX0_judge_2 12 rfl rfl)
theorem dX0_judge_60 : decode cX0_judge 60 = .ok (.getfield 12, 3) := dk_180 0 12 (dk_at dksX0_judge_2 13 rfl rfl)
theorem dX0_judge_63 : decode cX0_judge 63 = .ok (.getfield 77, 3) := dk_180 0 77 (dk_at dksX0_judge_2 16 rfl rfl)
theorem dX0_judge_66 : decode cX0_judge 66 = .ok (.bipush 24, 2) := dk_16 24 (dk_at dksX0_judge_2 19 rfl rfl)
theorem dX0_judge_68 : decode cX0_judge 68 = .ok (.dup2, 1) := dk_92 (dk_at dksX0_judge_2 21 rfl rfl)
theorem dX0_judge_69 : decode cX0_judge 69 = .ok (.iaload, 1) := dk_46 (dk_at dksX0_judge_2 22 rfl rfl)
theorem dX0_judge_70 : decode cX0_judge 70 = .ok (.dup_x2, 1) := dk_91 (dk_at dksX0_judge_2 23 rfl rfl)
theorem dX0_judge_71 : decode cX0_judge 71 = .ok (.iconst 1, 1) := dk_4 (dk_at dksX0_judge_3 0 rfl rfl)
theorem dX0_judge_72 : decode cX0_judge 72 = .ok (.iadd, 1) := dk_96 (dk_at dksX0_judge_3 1 rfl rfl)
theorem dX0_judge_73 : decode cX0_judge 73 = .ok (.iastore, 1) := dk_79 (dk_at dksX0_judge_3 2 rfl rfl)
theorem dX0_judge_74 : decode cX0_judge 74 = .ok (.aaload, 1) := dk_50 (dk_at dksX0_judge_3 3 rfl rfl)
theorem dX0_judge_75 : decode cX0_judge 75 = .ok (.astore_n 3, 1) := dk_78 (dk_at dksX0_judge_3 4 rfl rfl)
theorem dX0_judge_76 : decode cX0_judge 76 = .ok (.aload_n 3, 1) := dk_45 (dk_at dksX0_judge_3 5 rfl rfl)
theorem dX0_judge_77 : decode cX0_judge 77 = .ok (.iconst 0, 1) := dk_3 (dk_at dksX0_judge_3 6 rfl rfl)
theorem dX0_judge_78 : decode cX0_judge 78 = .ok (.iload_n 1, 1) := dk_27 (dk_at dksX0_judge_3 7 rfl rfl)
theorem dX0_judge_79 : decode cX0_judge 79 = .ok (.iastore, 1) := dk_79 (dk_at dksX0_judge_3 8 rfl rfl)
theorem dX0_judge_80 : decode cX0_judge 80 = .ok (.aload_n 3, 1) := dk_45 (dk_at dksX0_judge_3 9 rfl rfl)
theorem dX0_judge_81 : decode cX0_judge 81 = .ok (.iconst 1, 1) := dk_4 (dk_at dksX0_judge_3 10 rfl rfl)
theorem dX0_judge_82 : decode cX0_judge 82 = .ok (.aload_n 0, 1) := dk_42 (dk_at dksX0_judge_3 11 rfl rfl)
theorem dX0_judge_83 : decode cX0_judge 83 = .ok (.getfield 12, 3) := dk_180 0 12 (dk_at dksX0_judge_3 12 rfl rfl)
theorem dX0_judge_86 : decode cX0_judge 86 = .ok (.getfield 77, 3) := dk_180 0 77 (dk_at dksX0_judge_3 15 rfl rfl)
theorem dX0_judge_89 : decode cX0_judge 89 = .ok (.invokestatic 132, 3) := dk_184 0 132 (dk_at dksX0_judge_3 18 rfl rfl)
theorem dX0_judge_92 : decode cX0_judge 92 = .ok (.iastore, 1) := dk_79 (dk_at dksX0_judge_3 21 rfl rfl)
theorem dX0_judge_93 : decode cX0_judge 93 = .ok (.aload_n 3, 1) := dk_45 (dk_at dksX0_judge_3 22 rfl rfl)
theorem dX0_judge_94 : decode cX0_judge 94 = .ok (.iconst 2, 1) := dk_5 (dk_at dksX0_judge_3 23 rfl rfl)
theorem dX0_judge_95 : decode cX0_judge 95 = .ok (.iload_n 2, 1) := dk_28 (dk_at dksX0_judge_4 0 rfl rfl)
theorem dX0_judge_96 : decode cX0_judge 96 = .ok (.iastore, 1) := dk_79 (dk_at dksX0_judge_4 1 rfl rfl)
theorem dX0_judge_97 : decode cX0_judge 97 = .ok (.iload_n 2, 1) := dk_28 (dk_at dksX0_judge_4 2 rfl rfl)
theorem dX0_judge_98 : decode cX0_judge 98 = .ok (.ireturn, 1) := dk_172 (dk_at dksX0_judge_4 3 rfl rfl)
abbrev cX0_isGuilty : ByteArray := prog_1_method_15_code
def yX0_isGuilty : MethodName := ⟨RX0, "isGuilty", "([II)Z"⟩
def dkwX0_isGuilty_4 : List UInt8 := [79, 42, 182, 0, 89, 180, 0, 136, 42, 180, 0, 33, 185, 0, 140, 2, 0, 172]
abbrev dktX0_isGuilty_4 : List UInt8 := dkwX0_isGuilty_4 ++ []
def dkwX0_isGuilty_3 : List UInt8 := [46, 79, 25, 4, 16, 10, 43, 3, 5, 28, 104, 96, 4, 96, 46, 79, 25, 4, 16, 11, 43, 16, 24, 46]
abbrev dktX0_isGuilty_3 : List UInt8 := dkwX0_isGuilty_3 ++ dktX0_isGuilty_4
def dkwX0_isGuilty_2 : List UInt8 := [58, 4, 25, 4, 16, 7, 28, 79, 25, 4, 16, 8, 29, 79, 25, 4, 16, 9, 43, 3, 5, 28, 104, 96]
abbrev dktX0_isGuilty_2 : List UInt8 := dkwX0_isGuilty_2 ++ dktX0_isGuilty_3
def dkwX0_isGuilty_1 : List UInt8 := [167, 0, 16, 3, 167, 0, 12, 29, 158, 0, 7, 4, 167, 0, 4, 3, 172, 42, 180, 0, 33, 180, 0, 112]
abbrev dktX0_isGuilty_1 : List UInt8 := dkwX0_isGuilty_1 ++ dktX0_isGuilty_2
def dkwX0_isGuilty_0 : List UInt8 := [43, 184, 0, 132, 62, 42, 182, 0, 89, 180, 0, 136, 199, 0, 29, 28, 154, 0, 15, 29, 156, 0, 7, 4]
abbrev dktX0_isGuilty_0 : List UInt8 := dkwX0_isGuilty_0 ++ dktX0_isGuilty_1
theorem dksX0_isGuilty_0 : cX0_isGuilty.data.toList.drop 0 = dktX0_isGuilty_0 := by decide +kernel
theorem dksX0_isGuilty_1 : cX0_isGuilty.data.toList.drop 24 = dktX0_isGuilty_1 := dk_seg dksX0_isGuilty_0 24 rfl rfl
theorem dksX0_isGuilty_2 : cX0_isGuilty.data.toList.drop 48 = dktX0_isGuilty_2 := dk_seg dksX0_isGuilty_1 24 rfl rfl
theorem dksX0_isGuilty_3 : cX0_isGuilty.data.toList.drop 72 = dktX0_isGuilty_3 := dk_seg dksX0_isGuilty_2 24 rfl rfl
theorem dksX0_isGuilty_4 : cX0_isGuilty.data.toList.drop 96 = dktX0_isGuilty_4 := dk_seg dksX0_isGuilty_3 24 rfl rfl
theorem dX0_isGuilty_0 : decode cX0_isGuilty 0 = .ok (.aload_n 1, 1) := dk_43 (dk_at dksX0_isGuilty_0 0 rfl rfl)
theorem dX0_isGuilty_1 : decode cX0_isGuilty 1 = .ok (.invokestatic 132, 3) := dk_184 0 132 (dk_at dksX0_isGuilty_0 1 rfl rfl)
theorem dX0_isGuilty_4 : decode cX0_isGuilty 4 = .ok (.istore_n 3, 1) := dk_62 (dk_at dksX0_isGuilty_0 4 rfl rfl)
theorem dX0_isGuilty_5 : decode cX0_isGuilty 5 = .ok (.aload_n 0, 1) := dk_42 (dk_at dksX0_isGuilty_0 5 rfl rfl)
theorem dX0_isGuilty_6 : decode cX0_isGuilty 6 = .ok (.invokevirtual 89, 3) := dk_182 0 89 (dk_at dksX0_isGuilty_0 6 rfl rfl)
theorem dX0_isGuilty_9 : decode cX0_isGuilty 9 = .ok (.getfield 136, 3) := dk_180 0 136 (dk_at dksX0_isGuilty_0 9 rfl rfl)
theorem dX0_isGuilty_12 : decode cX0_isGuilty 12 = .ok (.ifnonnull 29, 3) := dk_199 0 29 (dk_at dksX0_isGuilty_0 12 rfl rfl)
theorem dX0_isGuilty_15 : decode cX0_isGuilty 15 = .ok (.iload_n 2, 1) := dk_28 (dk_at dksX0_isGuilty_0 15 rfl rfl)
theorem dX0_isGuilty_16 : decode cX0_isGuilty 16 = .ok (.ifCond .ne 15, 3) := dk_154 0 15 (dk_at dksX0_isGuilty_0 16 rfl rfl)
theorem dX0_isGuilty_19 : decode cX0_isGuilty 19 = .ok (.iload_n 3, 1) := dk_29 (dk_at dksX0_isGuilty_0 19 rfl rfl)
theorem dX0_isGuilty_20 : decode cX0_isGuilty 20 = .ok (.ifCond .ge 7, 3) := dk_156 0 7 (dk_at dksX0_isGuilty_0 20 rfl rfl)
theorem dX0_isGuilty_23 : decode cX0_isGuilty 23 = .ok (.iconst 1, 1) := dk_4 (dk_at dksX0_isGuilty_0 23 rfl rfl)
theorem dX0_isGuilty_24 : decode cX0_isGuilty 24 = .ok (.goto 16, 3) := dk_167 0 16 (dk_at dksX0_isGuilty_1 0 rfl rfl)
theorem dX0_isGuilty_27 : decode cX0_isGuilty 27 = .ok (.iconst 0, 1) := dk_3 (dk_at dksX0_isGuilty_1 3 rfl rfl)
theorem dX0_isGuilty_28 : decode cX0_isGuilty 28 = .ok (.goto 12, 3) := dk_167 0 12 (dk_at dksX0_isGuilty_1 4 rfl rfl)
theorem dX0_isGuilty_31 : decode cX0_isGuilty 31 = .ok (.iload_n 3, 1) := dk_29 (dk_at dksX0_isGuilty_1 7 rfl rfl)
theorem dX0_isGuilty_32 : decode cX0_isGuilty 32 = .ok (.ifCond .le 7, 3) := dk_158 0 7 (dk_at dksX0_isGuilty_1 8 rfl rfl)
theorem dX0_isGuilty_35 : decode cX0_isGuilty 35 = .ok (.iconst 1, 1) := dk_4 (dk_at dksX0_isGuilty_1 11 rfl rfl)
theorem dX0_isGuilty_36 : decode cX0_isGuilty 36 = .ok (.goto 4, 3) := dk_167 0 4 (dk_at dksX0_isGuilty_1 12 rfl rfl)
theorem dX0_isGuilty_39 : decode cX0_isGuilty 39 = .ok (.iconst 0, 1) := dk_3 (dk_at dksX0_isGuilty_1 15 rfl rfl)
theorem dX0_isGuilty_40 : decode cX0_isGuilty 40 = .ok (.ireturn, 1) := dk_172 (dk_at dksX0_isGuilty_1 16 rfl rfl)
theorem dX0_isGuilty_41 : decode cX0_isGuilty 41 = .ok (.aload_n 0, 1) := dk_42 (dk_at dksX0_isGuilty_1 17 rfl rfl)
theorem dX0_isGuilty_42 : decode cX0_isGuilty 42 = .ok (.getfield 33, 3) := dk_180 0 33 (dk_at dksX0_isGuilty_1 18 rfl rfl)
theorem dX0_isGuilty_45 : decode cX0_isGuilty 45 = .ok (.getfield 112, 3) := dk_180 0 112 (dk_at dksX0_isGuilty_1 21 rfl rfl)
theorem dX0_isGuilty_48 : decode cX0_isGuilty 48 = .ok (.astore 4, 2) := dk_58 4 (dk_at dksX0_isGuilty_2 0 rfl rfl)
theorem dX0_isGuilty_50 : decode cX0_isGuilty 50 = .ok (.aload 4, 2) := dk_25 4 (dk_at dksX0_isGuilty_2 2 rfl rfl)
theorem dX0_isGuilty_52 : decode cX0_isGuilty 52 = .ok (.bipush 7, 2) := dk_16 7 (dk_at dksX0_isGuilty_2 4 rfl rfl)
theorem dX0_isGuilty_54 : decode cX0_isGuilty 54 = .ok (.iload_n 2, 1) := dk_28 (dk_at dksX0_isGuilty_2 6 rfl rfl)
theorem dX0_isGuilty_55 : decode cX0_isGuilty 55 = .ok (.iastore, 1) := dk_79 (dk_at dksX0_isGuilty_2 7 rfl rfl)
theorem dX0_isGuilty_56 : decode cX0_isGuilty 56 = .ok (.aload 4, 2) := dk_25 4 (dk_at dksX0_isGuilty_2 8 rfl rfl)
theorem dX0_isGuilty_58 : decode cX0_isGuilty 58 = .ok (.bipush 8, 2) := dk_16 8 (dk_at dksX0_isGuilty_2 10 rfl rfl)
theorem dX0_isGuilty_60 : decode cX0_isGuilty 60 = .ok (.iload_n 3, 1) := dk_29 (dk_at dksX0_isGuilty_2 12 rfl rfl)
theorem dX0_isGuilty_61 : decode cX0_isGuilty 61 = .ok (.iastore, 1) := dk_79 (dk_at dksX0_isGuilty_2 13 rfl rfl)
theorem dX0_isGuilty_62 : decode cX0_isGuilty 62 = .ok (.aload 4, 2) := dk_25 4 (dk_at dksX0_isGuilty_2 14 rfl rfl)
theorem dX0_isGuilty_64 : decode cX0_isGuilty 64 = .ok (.bipush 9, 2) := dk_16 9 (dk_at dksX0_isGuilty_2 16 rfl rfl)
theorem dX0_isGuilty_66 : decode cX0_isGuilty 66 = .ok (.aload_n 1, 1) := dk_43 (dk_at dksX0_isGuilty_2 18 rfl rfl)
theorem dX0_isGuilty_67 : decode cX0_isGuilty 67 = .ok (.iconst 0, 1) := dk_3 (dk_at dksX0_isGuilty_2 19 rfl rfl)
theorem dX0_isGuilty_68 : decode cX0_isGuilty 68 = .ok (.iconst 2, 1) := dk_5 (dk_at dksX0_isGuilty_2 20 rfl rfl)
theorem dX0_isGuilty_69 : decode cX0_isGuilty 69 = .ok (.iload_n 2, 1) := dk_28 (dk_at dksX0_isGuilty_2 21 rfl rfl)
theorem dX0_isGuilty_70 : decode cX0_isGuilty 70 = .ok (.imul, 1) := dk_104 (dk_at dksX0_isGuilty_2 22 rfl rfl)
theorem dX0_isGuilty_71 : decode cX0_isGuilty 71 = .ok (.iadd, 1) := dk_96 (dk_at dksX0_isGuilty_2 23 rfl rfl)
theorem dX0_isGuilty_72 : decode cX0_isGuilty 72 = .ok (.iaload, 1) := dk_46 (dk_at dksX0_isGuilty_3 0 rfl rfl)
theorem dX0_isGuilty_73 : decode cX0_isGuilty 73 = .ok (.iastore, 1) := dk_79 (dk_at dksX0_isGuilty_3 1 rfl rfl)
theorem dX0_isGuilty_74 : decode cX0_isGuilty 74 = .ok (.aload 4, 2) := dk_25 4 (dk_at dksX0_isGuilty_3 2 rfl rfl)
theorem dX0_isGuilty_76 : decode cX0_isGuilty 76 = .ok (.bipush 10, 2) := dk_16 10 (dk_at dksX0_isGuilty_3 4 rfl rfl)
theorem dX0_isGuilty_78 : decode cX0_isGuilty 78 = .ok (.aload_n 1, 1) := dk_43 (dk_at dksX0_isGuilty_3 6 rfl rfl)
theorem dX0_isGuilty_79 : decode cX0_isGuilty 79 = .ok (.iconst 0, 1) := dk_3 (dk_at dksX0_isGuilty_3 7 rfl rfl)
theorem dX0_isGuilty_80 : decode cX0_isGuilty 80 = .ok (.iconst 2, 1) := dk_5 (dk_at dksX0_isGuilty_3 8 rfl rfl)
theorem dX0_isGuilty_81 : decode cX0_isGuilty 81 = .ok (.iload_n 2, 1) := dk_28 (dk_at dksX0_isGuilty_3 9 rfl rfl)
theorem dX0_isGuilty_82 : decode cX0_isGuilty 82 = .ok (.imul, 1) := dk_104 (dk_at dksX0_isGuilty_3 10 rfl rfl)
theorem dX0_isGuilty_83 : decode cX0_isGuilty 83 = .ok (.iadd, 1) := dk_96 (dk_at dksX0_isGuilty_3 11 rfl rfl)
theorem dX0_isGuilty_84 : decode cX0_isGuilty 84 = .ok (.iconst 1, 1) := dk_4 (dk_at dksX0_isGuilty_3 12 rfl rfl)
theorem dX0_isGuilty_85 : decode cX0_isGuilty 85 = .ok (.iadd, 1) := dk_96 (dk_at dksX0_isGuilty_3 13 rfl rfl)
theorem dX0_isGuilty_86 : decode cX0_isGuilty 86 = .ok (.iaload, 1) := dk_46 (dk_at dksX0_isGuilty_3 14 rfl rfl)
theorem dX0_isGuilty_87 : decode cX0_isGuilty 87 = .ok (.iastore, 1) := dk_79 (dk_at dksX0_isGuilty_3 15 rfl rfl)
theorem dX0_isGuilty_88 : decode cX0_isGuilty 88 = .ok (.aload 4, 2) := dk_25 4 (dk_at dksX0_isGuilty_3 16 rfl rfl)
theorem dX0_isGuilty_90 : decode cX0_isGuilty 90 = .ok (.bipush 11, 2) := dk_16 11 (dk_at dksX0_isGuilty_3 18 rfl rfl)
theorem dX0_isGuilty_92 : decode cX0_isGuilty 92 = .ok (.aload_n 1, 1) := dk_43 (dk_at dksX0_isGuilty_3 20 rfl rfl)
theorem dX0_isGuilty_93 : decode cX0_isGuilty 93 = .ok (.bipush 24, 2) := dk_16 24 (dk_at dksX0_isGuilty_3 21 rfl rfl)
theorem dX0_isGuilty_95 : decode cX0_isGuilty 95 = .ok (.iaload, 1) := dk_46 (dk_at dksX0_isGuilty_3 23 rfl rfl)
theorem dX0_isGuilty_96 : decode cX0_isGuilty 96 = .ok (.iastore, 1) := dk_79 (dk_at dksX0_isGuilty_4 0 rfl rfl)
theorem dX0_isGuilty_97 : decode cX0_isGuilty 97 = .ok (.aload_n 0, 1) := dk_42 (dk_at dksX0_isGuilty_4 1 rfl rfl)
theorem dX0_isGuilty_98 : decode cX0_isGuilty 98 = .ok (.invokevirtual 89, 3) := dk_182 0 89 (dk_at dksX0_isGuilty_4 2 rfl rfl)
theorem dX0_isGuilty_101 : decode cX0_isGuilty 101 = .ok (.getfield 136, 3) := dk_180 0 136 (dk_at dksX0_isGuilty_4 5 rfl rfl)
theorem dX0_isGuilty_104 : decode cX0_isGuilty 104 = .ok (.aload_n 0, 1) := dk_42 (dk_at dksX0_isGuilty_4 8 rfl rfl)
theorem dX0_isGuilty_105 : decode cX0_isGuilty 105 = .ok (.getfield 33, 3) := dk_180 0 33 (dk_at dksX0_isGuilty_4 9 rfl rfl)
theorem dX0_isGuilty_108 : decode cX0_isGuilty 108 = .ok (.invokeinterface 140 2, 5) := by decide +kernel
theorem dX0_isGuilty_113 : decode cX0_isGuilty 113 = .ok (.ireturn, 1) := dk_172 (dk_at dksX0_isGuilty_4 17 rfl rfl)
abbrev cX0_tiltOf : ByteArray := prog_1_method_14_code
def yX0_tiltOf : MethodName := ⟨RX0, "tiltOf", "([I)I"⟩
def dkwX0_tiltOf_0 : List UInt8 := [42, 3, 46, 42, 4, 46, 96, 42, 5, 46, 100, 42, 6, 46, 100, 172]
abbrev dktX0_tiltOf_0 : List UInt8 := dkwX0_tiltOf_0 ++ []
theorem dksX0_tiltOf_0 : cX0_tiltOf.data.toList.drop 0 = dktX0_tiltOf_0 := by decide +kernel
theorem dX0_tiltOf_0 : decode cX0_tiltOf 0 = .ok (.aload_n 0, 1) := dk_42 (dk_at dksX0_tiltOf_0 0 rfl rfl)
theorem dX0_tiltOf_1 : decode cX0_tiltOf 1 = .ok (.iconst 0, 1) := dk_3 (dk_at dksX0_tiltOf_0 1 rfl rfl)
theorem dX0_tiltOf_2 : decode cX0_tiltOf 2 = .ok (.iaload, 1) := dk_46 (dk_at dksX0_tiltOf_0 2 rfl rfl)
theorem dX0_tiltOf_3 : decode cX0_tiltOf 3 = .ok (.aload_n 0, 1) := dk_42 (dk_at dksX0_tiltOf_0 3 rfl rfl)
theorem dX0_tiltOf_4 : decode cX0_tiltOf 4 = .ok (.iconst 1, 1) := dk_4 (dk_at dksX0_tiltOf_0 4 rfl rfl)
theorem dX0_tiltOf_5 : decode cX0_tiltOf 5 = .ok (.iaload, 1) := dk_46 (dk_at dksX0_tiltOf_0 5 rfl rfl)
theorem dX0_tiltOf_6 : decode cX0_tiltOf 6 = .ok (.iadd, 1) := dk_96 (dk_at dksX0_tiltOf_0 6 rfl rfl)
theorem dX0_tiltOf_7 : decode cX0_tiltOf 7 = .ok (.aload_n 0, 1) := dk_42 (dk_at dksX0_tiltOf_0 7 rfl rfl)
theorem dX0_tiltOf_8 : decode cX0_tiltOf 8 = .ok (.iconst 2, 1) := dk_5 (dk_at dksX0_tiltOf_0 8 rfl rfl)
theorem dX0_tiltOf_9 : decode cX0_tiltOf 9 = .ok (.iaload, 1) := dk_46 (dk_at dksX0_tiltOf_0 9 rfl rfl)
theorem dX0_tiltOf_10 : decode cX0_tiltOf 10 = .ok (.isub, 1) := dk_100 (dk_at dksX0_tiltOf_0 10 rfl rfl)
theorem dX0_tiltOf_11 : decode cX0_tiltOf 11 = .ok (.aload_n 0, 1) := dk_42 (dk_at dksX0_tiltOf_0 11 rfl rfl)
theorem dX0_tiltOf_12 : decode cX0_tiltOf 12 = .ok (.iconst 3, 1) := dk_6 (dk_at dksX0_tiltOf_0 12 rfl rfl)
theorem dX0_tiltOf_13 : decode cX0_tiltOf 13 = .ok (.iaload, 1) := dk_46 (dk_at dksX0_tiltOf_0 13 rfl rfl)
theorem dX0_tiltOf_14 : decode cX0_tiltOf 14 = .ok (.isub, 1) := dk_100 (dk_at dksX0_tiltOf_0 14 rfl rfl)
theorem dX0_tiltOf_15 : decode cX0_tiltOf 15 = .ok (.ireturn, 1) := dk_172 (dk_at dksX0_tiltOf_0 15 rfl rfl)
abbrev cX0_flies : ByteArray := prog_1_method_20_code
def yX0_flies : MethodName := ⟨RX0, "flies", "(I)I"⟩
def dkwX0_flies_3 : List UInt8 := [132, 2, 1, 132, 3, 1, 167, 255, 203, 28, 172]
abbrev dktX0_flies_3 : List UInt8 := dkwX0_flies_3 ++ []
def dkwX0_flies_2 : List UInt8 := [21, 4, 46, 154, 0, 6, 167, 0, 20, 42, 180, 0, 12, 180, 0, 77, 21, 4, 92, 46, 4, 100, 79]
abbrev dktX0_flies_2 : List UInt8 := dkwX0_flies_2 ++ dktX0_flies_3
def dkwX0_flies_1 : List UInt8 := [27, 162, 0, 54, 3, 42, 180, 0, 12, 7, 182, 0, 169, 96, 54, 4, 42, 180, 0, 12, 180, 0, 77]
abbrev dktX0_flies_1 : List UInt8 := dkwX0_flies_1 ++ dktX0_flies_2
def dkwX0_flies_0 : List UInt8 := [27, 4, 16, 40, 184, 0, 66, 154, 0, 5, 2, 172, 42, 180, 0, 12, 182, 0, 153, 3, 61, 3, 62, 29]
abbrev dktX0_flies_0 : List UInt8 := dkwX0_flies_0 ++ dktX0_flies_1
theorem dksX0_flies_0 : cX0_flies.data.toList.drop 0 = dktX0_flies_0 := by decide +kernel
theorem dksX0_flies_1 : cX0_flies.data.toList.drop 24 = dktX0_flies_1 := dk_seg dksX0_flies_0 24 rfl rfl
theorem dksX0_flies_2 : cX0_flies.data.toList.drop 47 = dktX0_flies_2 := dk_seg dksX0_flies_1 23 rfl rfl
theorem dksX0_flies_3 : cX0_flies.data.toList.drop 70 = dktX0_flies_3 := dk_seg dksX0_flies_2 23 rfl rfl
theorem dX0_flies_0 : decode cX0_flies 0 = .ok (.iload_n 1, 1) := dk_27 (dk_at dksX0_flies_0 0 rfl rfl)
theorem dX0_flies_1 : decode cX0_flies 1 = .ok (.iconst 1, 1) := dk_4 (dk_at dksX0_flies_0 1 rfl rfl)
theorem dX0_flies_2 : decode cX0_flies 2 = .ok (.bipush 40, 2) := dk_16 40 (dk_at dksX0_flies_0 2 rfl rfl)
theorem dX0_flies_4 : decode cX0_flies 4 = .ok (.invokestatic 66, 3) := dk_184 0 66 (dk_at dksX0_flies_0 4 rfl rfl)
theorem dX0_flies_7 : decode cX0_flies 7 = .ok (.ifCond .ne 5, 3) := dk_154 0 5 (dk_at dksX0_flies_0 7 rfl rfl)
theorem dX0_flies_10 : decode cX0_flies 10 = .ok (.iconst (-1), 1) := dk_2 (dk_at dksX0_flies_0 10 rfl rfl)
theorem dX0_flies_11 : decode cX0_flies 11 = .ok (.ireturn, 1) := dk_172 (dk_at dksX0_flies_0 11 rfl rfl)
theorem dX0_flies_12 : decode cX0_flies 12 = .ok (.aload_n 0, 1) := dk_42 (dk_at dksX0_flies_0 12 rfl rfl)
theorem dX0_flies_13 : decode cX0_flies 13 = .ok (.getfield 12, 3) := dk_180 0 12 (dk_at dksX0_flies_0 13 rfl rfl)
theorem dX0_flies_16 : decode cX0_flies 16 = .ok (.invokevirtual 153, 3) := dk_182 0 153 (dk_at dksX0_flies_0 16 rfl rfl)
theorem dX0_flies_19 : decode cX0_flies 19 = .ok (.iconst 0, 1) := dk_3 (dk_at dksX0_flies_0 19 rfl rfl)
theorem dX0_flies_20 : decode cX0_flies 20 = .ok (.istore_n 2, 1) := dk_61 (dk_at dksX0_flies_0 20 rfl rfl)
theorem dX0_flies_21 : decode cX0_flies 21 = .ok (.iconst 0, 1) := dk_3 (dk_at dksX0_flies_0 21 rfl rfl)
theorem dX0_flies_22 : decode cX0_flies 22 = .ok (.istore_n 3, 1) := dk_62 (dk_at dksX0_flies_0 22 rfl rfl)
theorem dX0_flies_23 : decode cX0_flies 23 = .ok (.iload_n 3, 1) := dk_29 (dk_at dksX0_flies_0 23 rfl rfl)
theorem dX0_flies_24 : decode cX0_flies 24 = .ok (.iload_n 1, 1) := dk_27 (dk_at dksX0_flies_1 0 rfl rfl)
theorem dX0_flies_25 : decode cX0_flies 25 = .ok (.if_icmp .ge 54, 3) := dk_162 0 54 (dk_at dksX0_flies_1 1 rfl rfl)
theorem dX0_flies_28 : decode cX0_flies 28 = .ok (.iconst 0, 1) := dk_3 (dk_at dksX0_flies_1 4 rfl rfl)
theorem dX0_flies_29 : decode cX0_flies 29 = .ok (.aload_n 0, 1) := dk_42 (dk_at dksX0_flies_1 5 rfl rfl)
theorem dX0_flies_30 : decode cX0_flies 30 = .ok (.getfield 12, 3) := dk_180 0 12 (dk_at dksX0_flies_1 6 rfl rfl)
theorem dX0_flies_33 : decode cX0_flies 33 = .ok (.iconst 4, 1) := dk_7 (dk_at dksX0_flies_1 9 rfl rfl)
theorem dX0_flies_34 : decode cX0_flies 34 = .ok (.invokevirtual 169, 3) := dk_182 0 169 (dk_at dksX0_flies_1 10 rfl rfl)
theorem dX0_flies_37 : decode cX0_flies 37 = .ok (.iadd, 1) := dk_96 (dk_at dksX0_flies_1 13 rfl rfl)
theorem dX0_flies_38 : decode cX0_flies 38 = .ok (.istore 4, 2) := dk_54 4 (dk_at dksX0_flies_1 14 rfl rfl)
theorem dX0_flies_40 : decode cX0_flies 40 = .ok (.aload_n 0, 1) := dk_42 (dk_at dksX0_flies_1 16 rfl rfl)
theorem dX0_flies_41 : decode cX0_flies 41 = .ok (.getfield 12, 3) := dk_180 0 12 (dk_at dksX0_flies_1 17 rfl rfl)
theorem dX0_flies_44 : decode cX0_flies 44 = .ok (.getfield 77, 3) := dk_180 0 77 (dk_at dksX0_flies_1 20 rfl rfl)
theorem dX0_flies_47 : decode cX0_flies 47 = .ok (.iload 4, 2) := dk_21 4 (dk_at dksX0_flies_2 0 rfl rfl)
theorem dX0_flies_49 : decode cX0_flies 49 = .ok (.iaload, 1) := dk_46 (dk_at dksX0_flies_2 2 rfl rfl)
theorem dX0_flies_50 : decode cX0_flies 50 = .ok (.ifCond .ne 6, 3) := dk_154 0 6 (dk_at dksX0_flies_2 3 rfl rfl)
theorem dX0_flies_53 : decode cX0_flies 53 = .ok (.goto 20, 3) := dk_167 0 20 (dk_at dksX0_flies_2 6 rfl rfl)
theorem dX0_flies_56 : decode cX0_flies 56 = .ok (.aload_n 0, 1) := dk_42 (dk_at dksX0_flies_2 9 rfl rfl)
theorem dX0_flies_57 : decode cX0_flies 57 = .ok (.getfield 12, 3) := dk_180 0 12 (dk_at dksX0_flies_2 10 rfl rfl)
theorem dX0_flies_60 : decode cX0_flies 60 = .ok (.getfield 77, 3) := dk_180 0 77 (dk_at dksX0_flies_2 13 rfl rfl)
theorem dX0_flies_63 : decode cX0_flies 63 = .ok (.iload 4, 2) := dk_21 4 (dk_at dksX0_flies_2 16 rfl rfl)
theorem dX0_flies_65 : decode cX0_flies 65 = .ok (.dup2, 1) := dk_92 (dk_at dksX0_flies_2 18 rfl rfl)
theorem dX0_flies_66 : decode cX0_flies 66 = .ok (.iaload, 1) := dk_46 (dk_at dksX0_flies_2 19 rfl rfl)
theorem dX0_flies_67 : decode cX0_flies 67 = .ok (.iconst 1, 1) := dk_4 (dk_at dksX0_flies_2 20 rfl rfl)
theorem dX0_flies_68 : decode cX0_flies 68 = .ok (.isub, 1) := dk_100 (dk_at dksX0_flies_2 21 rfl rfl)
theorem dX0_flies_69 : decode cX0_flies 69 = .ok (.iastore, 1) := dk_79 (dk_at dksX0_flies_2 22 rfl rfl)
theorem dX0_flies_70 : decode cX0_flies 70 = .ok (.iinc 2 1, 3) := dk_132 2 1 (dk_at dksX0_flies_3 0 rfl rfl)
theorem dX0_flies_73 : decode cX0_flies 73 = .ok (.iinc 3 1, 3) := dk_132 3 1 (dk_at dksX0_flies_3 3 rfl rfl)
theorem dX0_flies_76 : decode cX0_flies 76 = .ok (.goto (-53), 3) := dk_167 255 203 (dk_at dksX0_flies_3 6 rfl rfl)
theorem dX0_flies_79 : decode cX0_flies 79 = .ok (.iload_n 2, 1) := dk_28 (dk_at dksX0_flies_3 9 rfl rfl)
theorem dX0_flies_80 : decode cX0_flies 80 = .ok (.ireturn, 1) := dk_172 (dk_at dksX0_flies_3 10 rfl rfl)
abbrev cX0_undo : ByteArray := prog_1_method_21_code
def yX0_undo : MethodName := ⟨RX0, "undo", "()I"⟩
def dkwX0_undo_1 : List UInt8 := [180, 0, 173, 172]
abbrev dktX0_undo_1 : List UInt8 := dkwX0_undo_1 ++ []
def dkwX0_undo_0 : List UInt8 := [42, 180, 0, 12, 180, 0, 173, 154, 0, 5, 2, 172, 42, 180, 0, 12, 182, 0, 176, 42, 180, 0, 12]
abbrev dktX0_undo_0 : List UInt8 := dkwX0_undo_0 ++ dktX0_undo_1
theorem dksX0_undo_0 : cX0_undo.data.toList.drop 0 = dktX0_undo_0 := by decide +kernel
theorem dksX0_undo_1 : cX0_undo.data.toList.drop 23 = dktX0_undo_1 := dk_seg dksX0_undo_0 23 rfl rfl
theorem dX0_undo_0 : decode cX0_undo 0 = .ok (.aload_n 0, 1) := dk_42 (dk_at dksX0_undo_0 0 rfl rfl)
theorem dX0_undo_1 : decode cX0_undo 1 = .ok (.getfield 12, 3) := dk_180 0 12 (dk_at dksX0_undo_0 1 rfl rfl)
theorem dX0_undo_4 : decode cX0_undo 4 = .ok (.getfield 173, 3) := dk_180 0 173 (dk_at dksX0_undo_0 4 rfl rfl)
theorem dX0_undo_7 : decode cX0_undo 7 = .ok (.ifCond .ne 5, 3) := dk_154 0 5 (dk_at dksX0_undo_0 7 rfl rfl)
theorem dX0_undo_10 : decode cX0_undo 10 = .ok (.iconst (-1), 1) := dk_2 (dk_at dksX0_undo_0 10 rfl rfl)
theorem dX0_undo_11 : decode cX0_undo 11 = .ok (.ireturn, 1) := dk_172 (dk_at dksX0_undo_0 11 rfl rfl)
theorem dX0_undo_12 : decode cX0_undo 12 = .ok (.aload_n 0, 1) := dk_42 (dk_at dksX0_undo_0 12 rfl rfl)
theorem dX0_undo_13 : decode cX0_undo 13 = .ok (.getfield 12, 3) := dk_180 0 12 (dk_at dksX0_undo_0 13 rfl rfl)
theorem dX0_undo_16 : decode cX0_undo 16 = .ok (.invokevirtual 176, 3) := dk_182 0 176 (dk_at dksX0_undo_0 16 rfl rfl)
theorem dX0_undo_19 : decode cX0_undo 19 = .ok (.aload_n 0, 1) := dk_42 (dk_at dksX0_undo_0 19 rfl rfl)
theorem dX0_undo_20 : decode cX0_undo 20 = .ok (.getfield 12, 3) := dk_180 0 12 (dk_at dksX0_undo_0 20 rfl rfl)
theorem dX0_undo_23 : decode cX0_undo 23 = .ok (.getfield 173, 3) := dk_180 0 173 (dk_at dksX0_undo_1 0 rfl rfl)
theorem dX0_undo_26 : decode cX0_undo 26 = .ok (.ireturn, 1) := dk_172 (dk_at dksX0_undo_1 3 rfl rfl)
abbrev cX0_feed : ByteArray := prog_1_method_22_code
def yX0_feed : MethodName := ⟨RX0, "feed", "(IIIII)I"⟩
def dkwX0_feed_2 : List UInt8 := [172]
abbrev dktX0_feed_2 : List UInt8 := dkwX0_feed_2 ++ []
def dkwX0_feed_1 : List UInt8 := [182, 0, 182, 42, 29, 182, 0, 182, 42, 21, 4, 182, 0, 182, 42, 21, 5, 182, 0, 182, 42, 180, 0, 179]
abbrev dktX0_feed_1 : List UInt8 := dkwX0_feed_1 ++ dktX0_feed_2
def dkwX0_feed_0 : List UInt8 := [42, 180, 0, 179, 16, 20, 96, 17, 1, 44, 164, 0, 5, 2, 172, 42, 27, 182, 0, 182, 42, 28]
abbrev dktX0_feed_0 : List UInt8 := dkwX0_feed_0 ++ dktX0_feed_1
theorem dksX0_feed_0 : cX0_feed.data.toList.drop 0 = dktX0_feed_0 := by decide +kernel
theorem dksX0_feed_1 : cX0_feed.data.toList.drop 22 = dktX0_feed_1 := dk_seg dksX0_feed_0 22 rfl rfl
theorem dksX0_feed_2 : cX0_feed.data.toList.drop 46 = dktX0_feed_2 := dk_seg dksX0_feed_1 24 rfl rfl
theorem dX0_feed_0 : decode cX0_feed 0 = .ok (.aload_n 0, 1) := dk_42 (dk_at dksX0_feed_0 0 rfl rfl)
theorem dX0_feed_1 : decode cX0_feed 1 = .ok (.getfield 179, 3) := dk_180 0 179 (dk_at dksX0_feed_0 1 rfl rfl)
theorem dX0_feed_4 : decode cX0_feed 4 = .ok (.bipush 20, 2) := dk_16 20 (dk_at dksX0_feed_0 4 rfl rfl)
theorem dX0_feed_6 : decode cX0_feed 6 = .ok (.iadd, 1) := dk_96 (dk_at dksX0_feed_0 6 rfl rfl)
theorem dX0_feed_7 : decode cX0_feed 7 = .ok (.sipush 300, 3) := dk_17 1 44 (dk_at dksX0_feed_0 7 rfl rfl)
theorem dX0_feed_10 : decode cX0_feed 10 = .ok (.if_icmp .le 5, 3) := dk_164 0 5 (dk_at dksX0_feed_0 10 rfl rfl)
theorem dX0_feed_13 : decode cX0_feed 13 = .ok (.iconst (-1), 1) := dk_2 (dk_at dksX0_feed_0 13 rfl rfl)
theorem dX0_feed_14 : decode cX0_feed 14 = .ok (.ireturn, 1) := dk_172 (dk_at dksX0_feed_0 14 rfl rfl)
theorem dX0_feed_15 : decode cX0_feed 15 = .ok (.aload_n 0, 1) := dk_42 (dk_at dksX0_feed_0 15 rfl rfl)
theorem dX0_feed_16 : decode cX0_feed 16 = .ok (.iload_n 1, 1) := dk_27 (dk_at dksX0_feed_0 16 rfl rfl)
theorem dX0_feed_17 : decode cX0_feed 17 = .ok (.invokevirtual 182, 3) := dk_182 0 182 (dk_at dksX0_feed_0 17 rfl rfl)
theorem dX0_feed_20 : decode cX0_feed 20 = .ok (.aload_n 0, 1) := dk_42 (dk_at dksX0_feed_0 20 rfl rfl)
theorem dX0_feed_21 : decode cX0_feed 21 = .ok (.iload_n 2, 1) := dk_28 (dk_at dksX0_feed_0 21 rfl rfl)
theorem dX0_feed_22 : decode cX0_feed 22 = .ok (.invokevirtual 182, 3) := dk_182 0 182 (dk_at dksX0_feed_1 0 rfl rfl)
theorem dX0_feed_25 : decode cX0_feed 25 = .ok (.aload_n 0, 1) := dk_42 (dk_at dksX0_feed_1 3 rfl rfl)
theorem dX0_feed_26 : decode cX0_feed 26 = .ok (.iload_n 3, 1) := dk_29 (dk_at dksX0_feed_1 4 rfl rfl)
theorem dX0_feed_27 : decode cX0_feed 27 = .ok (.invokevirtual 182, 3) := dk_182 0 182 (dk_at dksX0_feed_1 5 rfl rfl)
theorem dX0_feed_30 : decode cX0_feed 30 = .ok (.aload_n 0, 1) := dk_42 (dk_at dksX0_feed_1 8 rfl rfl)
theorem dX0_feed_31 : decode cX0_feed 31 = .ok (.iload 4, 2) := dk_21 4 (dk_at dksX0_feed_1 9 rfl rfl)
theorem dX0_feed_33 : decode cX0_feed 33 = .ok (.invokevirtual 182, 3) := dk_182 0 182 (dk_at dksX0_feed_1 11 rfl rfl)
theorem dX0_feed_36 : decode cX0_feed 36 = .ok (.aload_n 0, 1) := dk_42 (dk_at dksX0_feed_1 14 rfl rfl)
theorem dX0_feed_37 : decode cX0_feed 37 = .ok (.iload 5, 2) := dk_21 5 (dk_at dksX0_feed_1 15 rfl rfl)
theorem dX0_feed_39 : decode cX0_feed 39 = .ok (.invokevirtual 182, 3) := dk_182 0 182 (dk_at dksX0_feed_1 17 rfl rfl)
theorem dX0_feed_42 : decode cX0_feed 42 = .ok (.aload_n 0, 1) := dk_42 (dk_at dksX0_feed_1 20 rfl rfl)
theorem dX0_feed_43 : decode cX0_feed 43 = .ok (.getfield 179, 3) := dk_180 0 179 (dk_at dksX0_feed_1 21 rfl rfl)
theorem dX0_feed_46 : decode cX0_feed 46 = .ok (.ireturn, 1) := dk_172 (dk_at dksX0_feed_2 0 rfl rfl)
abbrev cX0_four : ByteArray := prog_1_method_23_code
def yX0_four : MethodName := ⟨RX0, "four", "(I)V"⟩
def dkwX0_four_1 : List UInt8 := [122, 145, 84, 132, 2, 248, 167, 255, 229, 177]
abbrev dktX0_four_1 : List UInt8 := dkwX0_four_1 ++ []
def dkwX0_four_0 : List UInt8 := [16, 24, 61, 28, 155, 0, 29, 42, 180, 0, 37, 42, 89, 180, 0, 179, 90, 4, 96, 181, 0, 179, 27, 28]
abbrev dktX0_four_0 : List UInt8 := dkwX0_four_0 ++ dktX0_four_1
theorem dksX0_four_0 : cX0_four.data.toList.drop 0 = dktX0_four_0 := by decide +kernel
theorem dksX0_four_1 : cX0_four.data.toList.drop 24 = dktX0_four_1 := dk_seg dksX0_four_0 24 rfl rfl
theorem dX0_four_0 : decode cX0_four 0 = .ok (.bipush 24, 2) := dk_16 24 (dk_at dksX0_four_0 0 rfl rfl)
theorem dX0_four_2 : decode cX0_four 2 = .ok (.istore_n 2, 1) := dk_61 (dk_at dksX0_four_0 2 rfl rfl)
theorem dX0_four_3 : decode cX0_four 3 = .ok (.iload_n 2, 1) := dk_28 (dk_at dksX0_four_0 3 rfl rfl)
theorem dX0_four_4 : decode cX0_four 4 = .ok (.ifCond .lt 29, 3) := dk_155 0 29 (dk_at dksX0_four_0 4 rfl rfl)
theorem dX0_four_7 : decode cX0_four 7 = .ok (.aload_n 0, 1) := dk_42 (dk_at dksX0_four_0 7 rfl rfl)
theorem dX0_four_8 : decode cX0_four 8 = .ok (.getfield 37, 3) := dk_180 0 37 (dk_at dksX0_four_0 8 rfl rfl)
theorem dX0_four_11 : decode cX0_four 11 = .ok (.aload_n 0, 1) := dk_42 (dk_at dksX0_four_0 11 rfl rfl)
theorem dX0_four_12 : decode cX0_four 12 = .ok (.dup, 1) := dk_89 (dk_at dksX0_four_0 12 rfl rfl)
theorem dX0_four_13 : decode cX0_four 13 = .ok (.getfield 179, 3) := dk_180 0 179 (dk_at dksX0_four_0 13 rfl rfl)
theorem dX0_four_16 : decode cX0_four 16 = .ok (.dup_x1, 1) := dk_90 (dk_at dksX0_four_0 16 rfl rfl)
theorem dX0_four_17 : decode cX0_four 17 = .ok (.iconst 1, 1) := dk_4 (dk_at dksX0_four_0 17 rfl rfl)
theorem dX0_four_18 : decode cX0_four 18 = .ok (.iadd, 1) := dk_96 (dk_at dksX0_four_0 18 rfl rfl)
theorem dX0_four_19 : decode cX0_four 19 = .ok (.putfield 179, 3) := dk_181 0 179 (dk_at dksX0_four_0 19 rfl rfl)
theorem dX0_four_22 : decode cX0_four 22 = .ok (.iload_n 1, 1) := dk_27 (dk_at dksX0_four_0 22 rfl rfl)
theorem dX0_four_23 : decode cX0_four 23 = .ok (.iload_n 2, 1) := dk_28 (dk_at dksX0_four_0 23 rfl rfl)
theorem dX0_four_24 : decode cX0_four 24 = .ok (.ishr, 1) := dk_122 (dk_at dksX0_four_1 0 rfl rfl)
theorem dX0_four_25 : decode cX0_four 25 = .ok (.i2b, 1) := dk_145 (dk_at dksX0_four_1 1 rfl rfl)
theorem dX0_four_26 : decode cX0_four 26 = .ok (.bastore, 1) := dk_84 (dk_at dksX0_four_1 2 rfl rfl)
theorem dX0_four_27 : decode cX0_four 27 = .ok (.iinc 2 (-8), 3) := dk_132 2 248 (dk_at dksX0_four_1 3 rfl rfl)
theorem dX0_four_30 : decode cX0_four 30 = .ok (.goto (-27), 3) := dk_167 255 229 (dk_at dksX0_four_1 6 rfl rfl)
theorem dX0_four_33 : decode cX0_four 33 = .ok (.return_, 1) := dk_177 (dk_at dksX0_four_1 9 rfl rfl)
abbrev cX0_end : ByteArray := prog_1_method_24_code
def yX0_end : MethodName := ⟨RX0, "end", "(I)I"⟩
def dkwX0_end_0 : List UInt8 := [27, 3, 42, 180, 0, 179, 184, 0, 66, 154, 0, 5, 2, 172, 42, 27, 181, 0, 179, 27, 172]
abbrev dktX0_end_0 : List UInt8 := dkwX0_end_0 ++ []
theorem dksX0_end_0 : cX0_end.data.toList.drop 0 = dktX0_end_0 := by decide +kernel
theorem dX0_end_0 : decode cX0_end 0 = .ok (.iload_n 1, 1) := dk_27 (dk_at dksX0_end_0 0 rfl rfl)
theorem dX0_end_1 : decode cX0_end 1 = .ok (.iconst 0, 1) := dk_3 (dk_at dksX0_end_0 1 rfl rfl)
theorem dX0_end_2 : decode cX0_end 2 = .ok (.aload_n 0, 1) := dk_42 (dk_at dksX0_end_0 2 rfl rfl)
theorem dX0_end_3 : decode cX0_end 3 = .ok (.getfield 179, 3) := dk_180 0 179 (dk_at dksX0_end_0 3 rfl rfl)
theorem dX0_end_6 : decode cX0_end 6 = .ok (.invokestatic 66, 3) := dk_184 0 66 (dk_at dksX0_end_0 6 rfl rfl)
theorem dX0_end_9 : decode cX0_end 9 = .ok (.ifCond .ne 5, 3) := dk_154 0 5 (dk_at dksX0_end_0 9 rfl rfl)
theorem dX0_end_12 : decode cX0_end 12 = .ok (.iconst (-1), 1) := dk_2 (dk_at dksX0_end_0 12 rfl rfl)
theorem dX0_end_13 : decode cX0_end 13 = .ok (.ireturn, 1) := dk_172 (dk_at dksX0_end_0 13 rfl rfl)
theorem dX0_end_14 : decode cX0_end 14 = .ok (.aload_n 0, 1) := dk_42 (dk_at dksX0_end_0 14 rfl rfl)
theorem dX0_end_15 : decode cX0_end 15 = .ok (.iload_n 1, 1) := dk_27 (dk_at dksX0_end_0 15 rfl rfl)
theorem dX0_end_16 : decode cX0_end 16 = .ok (.putfield 179, 3) := dk_181 0 179 (dk_at dksX0_end_0 16 rfl rfl)
theorem dX0_end_19 : decode cX0_end 19 = .ok (.iload_n 1, 1) := dk_27 (dk_at dksX0_end_0 19 rfl rfl)
theorem dX0_end_20 : decode cX0_end 20 = .ok (.ireturn, 1) := dk_172 (dk_at dksX0_end_0 20 rfl rfl)
abbrev cX0_text : ByteArray := prog_1_method_25_code
def yX0_text : MethodName := ⟨RX0, "text", "()I"⟩
def dkwX0_text_4 : List UInt8 := [181, 0, 186, 172]
abbrev dktX0_text_4 : List UInt8 := dkwX0_text_4 ++ []
def dkwX0_text_3 : List UInt8 := [181, 0, 41, 42, 44, 180, 0, 202, 181, 0, 45, 2, 172, 42, 180, 0, 12, 89, 180, 0, 186, 90, 4, 96]
abbrev dktX0_text_3 : List UInt8 := dkwX0_text_3 ++ dktX0_text_4
def dkwX0_text_2 : List UInt8 := [182, 0, 194, 83, 42, 3, 181, 0, 41, 42, 2, 181, 0, 45, 167, 0, 22, 77, 42, 44, 180, 0, 199]
abbrev dktX0_text_2 : List UInt8 := dkwX0_text_2 ++ dktX0_text_3
def dkwX0_text_1 : List UInt8 := [180, 0, 179, 183, 0, 191, 76, 42, 3, 181, 0, 179, 42, 180, 0, 21, 42, 180, 0, 12, 180, 0, 186, 43]
abbrev dktX0_text_1 : List UInt8 := dkwX0_text_1 ++ dktX0_text_2
def dkwX0_text_0 : List UInt8 := [42, 180, 0, 12, 180, 0, 186, 7, 160, 0, 5, 2, 172, 187, 0, 189, 89, 42, 180, 0, 37, 42]
abbrev dktX0_text_0 : List UInt8 := dkwX0_text_0 ++ dktX0_text_1
theorem dksX0_text_0 : cX0_text.data.toList.drop 0 = dktX0_text_0 := by decide +kernel
theorem dksX0_text_1 : cX0_text.data.toList.drop 22 = dktX0_text_1 := dk_seg dksX0_text_0 22 rfl rfl
theorem dksX0_text_2 : cX0_text.data.toList.drop 46 = dktX0_text_2 := dk_seg dksX0_text_1 24 rfl rfl
theorem dksX0_text_3 : cX0_text.data.toList.drop 69 = dktX0_text_3 := dk_seg dksX0_text_2 23 rfl rfl
theorem dksX0_text_4 : cX0_text.data.toList.drop 93 = dktX0_text_4 := dk_seg dksX0_text_3 24 rfl rfl
theorem dX0_text_0 : decode cX0_text 0 = .ok (.aload_n 0, 1) := dk_42 (dk_at dksX0_text_0 0 rfl rfl)
theorem dX0_text_1 : decode cX0_text 1 = .ok (.getfield 12, 3) := dk_180 0 12 (dk_at dksX0_text_0 1 rfl rfl)
theorem dX0_text_4 : decode cX0_text 4 = .ok (.getfield 186, 3) := dk_180 0 186 (dk_at dksX0_text_0 4 rfl rfl)
theorem dX0_text_7 : decode cX0_text 7 = .ok (.iconst 4, 1) := dk_7 (dk_at dksX0_text_0 7 rfl rfl)
theorem dX0_text_8 : decode cX0_text 8 = .ok (.if_icmp .ne 5, 3) := dk_160 0 5 (dk_at dksX0_text_0 8 rfl rfl)
theorem dX0_text_11 : decode cX0_text 11 = .ok (.iconst (-1), 1) := dk_2 (dk_at dksX0_text_0 11 rfl rfl)
theorem dX0_text_12 : decode cX0_text 12 = .ok (.ireturn, 1) := dk_172 (dk_at dksX0_text_0 12 rfl rfl)
theorem dX0_text_13 : decode cX0_text 13 = .ok (.new 189, 3) := dk_187 0 189 (dk_at dksX0_text_0 13 rfl rfl)
theorem dX0_text_16 : decode cX0_text 16 = .ok (.dup, 1) := dk_89 (dk_at dksX0_text_0 16 rfl rfl)
theorem dX0_text_17 : decode cX0_text 17 = .ok (.aload_n 0, 1) := dk_42 (dk_at dksX0_text_0 17 rfl rfl)
theorem dX0_text_18 : decode cX0_text 18 = .ok (.getfield 37, 3) := dk_180 0 37 (dk_at dksX0_text_0 18 rfl rfl)
theorem dX0_text_21 : decode cX0_text 21 = .ok (.aload_n 0, 1) := dk_42 (dk_at dksX0_text_0 21 rfl rfl)
theorem dX0_text_22 : decode cX0_text 22 = .ok (.getfield 179, 3) := dk_180 0 179 (dk_at dksX0_text_1 0 rfl rfl)
theorem dX0_text_25 : decode cX0_text 25 = .ok (.invokespecial 191, 3) := dk_183 0 191 (dk_at dksX0_text_1 3 rfl rfl)
theorem dX0_text_28 : decode cX0_text 28 = .ok (.astore_n 1, 1) := dk_76 (dk_at dksX0_text_1 6 rfl rfl)
theorem dX0_text_29 : decode cX0_text 29 = .ok (.aload_n 0, 1) := dk_42 (dk_at dksX0_text_1 7 rfl rfl)
theorem dX0_text_30 : decode cX0_text 30 = .ok (.iconst 0, 1) := dk_3 (dk_at dksX0_text_1 8 rfl rfl)
theorem dX0_text_31 : decode cX0_text 31 = .ok (.putfield 179, 3) := dk_181 0 179 (dk_at dksX0_text_1 9 rfl rfl)
theorem dX0_text_34 : decode cX0_text 34 = .ok (.aload_n 0, 1) := dk_42 (dk_at dksX0_text_1 12 rfl rfl)
theorem dX0_text_35 : decode cX0_text 35 = .ok (.getfield 21, 3) := dk_180 0 21 (dk_at dksX0_text_1 13 rfl rfl)
theorem dX0_text_38 : decode cX0_text 38 = .ok (.aload_n 0, 1) := dk_42 (dk_at dksX0_text_1 16 rfl rfl)
theorem dX0_text_39 : decode cX0_text 39 = .ok (.getfield 12, 3) := dk_180 0 12 (dk_at dksX0_text_1 17 rfl rfl)
theorem dX0_text_42 : decode cX0_text 42 = .ok (.getfield 186, 3) := dk_180 0 186 (dk_at dksX0_text_1 20 rfl rfl)
theorem dX0_text_45 : decode cX0_text 45 = .ok (.aload_n 1, 1) := dk_43 (dk_at dksX0_text_1 23 rfl rfl)
theorem dX0_text_46 : decode cX0_text 46 = .ok (.invokevirtual 194, 3) := dk_182 0 194 (dk_at dksX0_text_2 0 rfl rfl)
theorem dX0_text_49 : decode cX0_text 49 = .ok (.aastore, 1) := dk_83 (dk_at dksX0_text_2 3 rfl rfl)
theorem dX0_text_50 : decode cX0_text 50 = .ok (.aload_n 0, 1) := dk_42 (dk_at dksX0_text_2 4 rfl rfl)
theorem dX0_text_51 : decode cX0_text 51 = .ok (.iconst 0, 1) := dk_3 (dk_at dksX0_text_2 5 rfl rfl)
theorem dX0_text_52 : decode cX0_text 52 = .ok (.putfield 41, 3) := dk_181 0 41 (dk_at dksX0_text_2 6 rfl rfl)
theorem dX0_text_55 : decode cX0_text 55 = .ok (.aload_n 0, 1) := dk_42 (dk_at dksX0_text_2 9 rfl rfl)
theorem dX0_text_56 : decode cX0_text 56 = .ok (.iconst (-1), 1) := dk_2 (dk_at dksX0_text_2 10 rfl rfl)
theorem dX0_text_57 : decode cX0_text 57 = .ok (.putfield 45, 3) := dk_181 0 45 (dk_at dksX0_text_2 11 rfl rfl)
theorem dX0_text_60 : decode cX0_text 60 = .ok (.goto 22, 3) := dk_167 0 22 (dk_at dksX0_text_2 14 rfl rfl)
theorem dX0_text_63 : decode cX0_text 63 = .ok (.astore_n 2, 1) := dk_77 (dk_at dksX0_text_2 17 rfl rfl)
theorem dX0_text_64 : decode cX0_text 64 = .ok (.aload_n 0, 1) := dk_42 (dk_at dksX0_text_2 18 rfl rfl)
theorem dX0_text_65 : decode cX0_text 65 = .ok (.aload_n 2, 1) := dk_44 (dk_at dksX0_text_2 19 rfl rfl)
theorem dX0_text_66 : decode cX0_text 66 = .ok (.getfield 199, 3) := dk_180 0 199 (dk_at dksX0_text_2 20 rfl rfl)
theorem dX0_text_69 : decode cX0_text 69 = .ok (.putfield 41, 3) := dk_181 0 41 (dk_at dksX0_text_3 0 rfl rfl)
theorem dX0_text_72 : decode cX0_text 72 = .ok (.aload_n 0, 1) := dk_42 (dk_at dksX0_text_3 3 rfl rfl)
theorem dX0_text_73 : decode cX0_text 73 = .ok (.aload_n 2, 1) := dk_44 (dk_at dksX0_text_3 4 rfl rfl)
theorem dX0_text_74 : decode cX0_text 74 = .ok (.getfield 202, 3) := dk_180 0 202 (dk_at dksX0_text_3 5 rfl rfl)
theorem dX0_text_77 : decode cX0_text 77 = .ok (.putfield 45, 3) := dk_181 0 45 (dk_at dksX0_text_3 8 rfl rfl)
theorem dX0_text_80 : decode cX0_text 80 = .ok (.iconst (-1), 1) := dk_2 (dk_at dksX0_text_3 11 rfl rfl)
theorem dX0_text_81 : decode cX0_text 81 = .ok (.ireturn, 1) := dk_172 (dk_at dksX0_text_3 12 rfl rfl)
theorem dX0_text_82 : decode cX0_text 82 = .ok (.aload_n 0, 1) := dk_42 (dk_at dksX0_text_3 13 rfl rfl)
theorem dX0_text_83 : decode cX0_text 83 = .ok (.getfield 12, 3) := dk_180 0 12 (dk_at dksX0_text_3 14 rfl rfl)
theorem dX0_text_86 : decode cX0_text 86 = .ok (.dup, 1) := dk_89 (dk_at dksX0_text_3 17 rfl rfl)
theorem dX0_text_87 : decode cX0_text 87 = .ok (.getfield 186, 3) := dk_180 0 186 (dk_at dksX0_text_3 18 rfl rfl)
theorem dX0_text_90 : decode cX0_text 90 = .ok (.dup_x1, 1) := dk_90 (dk_at dksX0_text_3 21 rfl rfl)
theorem dX0_text_91 : decode cX0_text 91 = .ok (.iconst 1, 1) := dk_4 (dk_at dksX0_text_3 22 rfl rfl)
theorem dX0_text_92 : decode cX0_text 92 = .ok (.iadd, 1) := dk_96 (dk_at dksX0_text_3 23 rfl rfl)
theorem dX0_text_93 : decode cX0_text 93 = .ok (.putfield 186, 3) := dk_181 0 186 (dk_at dksX0_text_4 0 rfl rfl)
theorem dX0_text_96 : decode cX0_text 96 = .ok (.ireturn, 1) := dk_172 (dk_at dksX0_text_4 3 rfl rfl)
abbrev cX0_fault : ByteArray := prog_1_method_26_code
def yX0_fault : MethodName := ⟨RX0, "fault", "(I)I"⟩
def dkwX0_fault_1 : List UInt8 := [172]
abbrev dktX0_fault_1 : List UInt8 := dkwX0_fault_1 ++ []
def dkwX0_fault_0 : List UInt8 := [27, 154, 0, 10, 42, 180, 0, 41, 167, 0, 16, 27, 4, 160, 0, 10, 42, 180, 0, 45, 167, 0, 4, 2]
abbrev dktX0_fault_0 : List UInt8 := dkwX0_fault_0 ++ dktX0_fault_1
theorem dksX0_fault_0 : cX0_fault.data.toList.drop 0 = dktX0_fault_0 := by decide +kernel
theorem dksX0_fault_1 : cX0_fault.data.toList.drop 24 = dktX0_fault_1 := dk_seg dksX0_fault_0 24 rfl rfl
theorem dX0_fault_0 : decode cX0_fault 0 = .ok (.iload_n 1, 1) := dk_27 (dk_at dksX0_fault_0 0 rfl rfl)
theorem dX0_fault_1 : decode cX0_fault 1 = .ok (.ifCond .ne 10, 3) := dk_154 0 10 (dk_at dksX0_fault_0 1 rfl rfl)
theorem dX0_fault_4 : decode cX0_fault 4 = .ok (.aload_n 0, 1) := dk_42 (dk_at dksX0_fault_0 4 rfl rfl)
theorem dX0_fault_5 : decode cX0_fault 5 = .ok (.getfield 41, 3) := dk_180 0 41 (dk_at dksX0_fault_0 5 rfl rfl)
theorem dX0_fault_8 : decode cX0_fault 8 = .ok (.goto 16, 3) := dk_167 0 16 (dk_at dksX0_fault_0 8 rfl rfl)
theorem dX0_fault_11 : decode cX0_fault 11 = .ok (.iload_n 1, 1) := dk_27 (dk_at dksX0_fault_0 11 rfl rfl)
theorem dX0_fault_12 : decode cX0_fault 12 = .ok (.iconst 1, 1) := dk_4 (dk_at dksX0_fault_0 12 rfl rfl)
theorem dX0_fault_13 : decode cX0_fault 13 = .ok (.if_icmp .ne 10, 3) := dk_160 0 10 (dk_at dksX0_fault_0 13 rfl rfl)
theorem dX0_fault_16 : decode cX0_fault 16 = .ok (.aload_n 0, 1) := dk_42 (dk_at dksX0_fault_0 16 rfl rfl)
theorem dX0_fault_17 : decode cX0_fault 17 = .ok (.getfield 45, 3) := dk_180 0 45 (dk_at dksX0_fault_0 17 rfl rfl)
theorem dX0_fault_20 : decode cX0_fault 20 = .ok (.goto 4, 3) := dk_167 0 4 (dk_at dksX0_fault_0 20 rfl rfl)
theorem dX0_fault_23 : decode cX0_fault 23 = .ok (.iconst (-1), 1) := dk_2 (dk_at dksX0_fault_0 23 rfl rfl)
theorem dX0_fault_24 : decode cX0_fault 24 = .ok (.ireturn, 1) := dk_172 (dk_at dksX0_fault_1 0 rfl rfl)
abbrev cX0_by : ByteArray := prog_1_method_27_code
def yX0_by : MethodName := ⟨RX0, "by", "(I)Z"⟩
def dkwX0_by_1 : List UInt8 := [181, 0, 60, 4, 172]
abbrev dktX0_by_1 : List UInt8 := dkwX0_by_1 ++ []
def dkwX0_by_0 : List UInt8 := [27, 2, 42, 180, 0, 12, 180, 0, 186, 4, 100, 184, 0, 66, 154, 0, 5, 3, 172, 42, 180, 0, 12, 27]
abbrev dktX0_by_0 : List UInt8 := dkwX0_by_0 ++ dktX0_by_1
theorem dksX0_by_0 : cX0_by.data.toList.drop 0 = dktX0_by_0 := by decide +kernel
theorem dksX0_by_1 : cX0_by.data.toList.drop 24 = dktX0_by_1 := dk_seg dksX0_by_0 24 rfl rfl
theorem dX0_by_0 : decode cX0_by 0 = .ok (.iload_n 1, 1) := dk_27 (dk_at dksX0_by_0 0 rfl rfl)
theorem dX0_by_1 : decode cX0_by 1 = .ok (.iconst (-1), 1) := dk_2 (dk_at dksX0_by_0 1 rfl rfl)
theorem dX0_by_2 : decode cX0_by 2 = .ok (.aload_n 0, 1) := dk_42 (dk_at dksX0_by_0 2 rfl rfl)
theorem dX0_by_3 : decode cX0_by 3 = .ok (.getfield 12, 3) := dk_180 0 12 (dk_at dksX0_by_0 3 rfl rfl)
theorem dX0_by_6 : decode cX0_by 6 = .ok (.getfield 186, 3) := dk_180 0 186 (dk_at dksX0_by_0 6 rfl rfl)
theorem dX0_by_9 : decode cX0_by 9 = .ok (.iconst 1, 1) := dk_4 (dk_at dksX0_by_0 9 rfl rfl)
theorem dX0_by_10 : decode cX0_by 10 = .ok (.isub, 1) := dk_100 (dk_at dksX0_by_0 10 rfl rfl)
theorem dX0_by_11 : decode cX0_by 11 = .ok (.invokestatic 66, 3) := dk_184 0 66 (dk_at dksX0_by_0 11 rfl rfl)
theorem dX0_by_14 : decode cX0_by 14 = .ok (.ifCond .ne 5, 3) := dk_154 0 5 (dk_at dksX0_by_0 14 rfl rfl)
theorem dX0_by_17 : decode cX0_by 17 = .ok (.iconst 0, 1) := dk_3 (dk_at dksX0_by_0 17 rfl rfl)
theorem dX0_by_18 : decode cX0_by 18 = .ok (.ireturn, 1) := dk_172 (dk_at dksX0_by_0 18 rfl rfl)
theorem dX0_by_19 : decode cX0_by 19 = .ok (.aload_n 0, 1) := dk_42 (dk_at dksX0_by_0 19 rfl rfl)
theorem dX0_by_20 : decode cX0_by 20 = .ok (.getfield 12, 3) := dk_180 0 12 (dk_at dksX0_by_0 20 rfl rfl)
theorem dX0_by_23 : decode cX0_by 23 = .ok (.iload_n 1, 1) := dk_27 (dk_at dksX0_by_0 23 rfl rfl)
theorem dX0_by_24 : decode cX0_by 24 = .ok (.putfield 60, 3) := dk_181 0 60 (dk_at dksX0_by_1 0 rfl rfl)
theorem dX0_by_27 : decode cX0_by 27 = .ok (.iconst 1, 1) := dk_4 (dk_at dksX0_by_1 3 rfl rfl)
theorem dX0_by_28 : decode cX0_by 28 = .ok (.ireturn, 1) := dk_172 (dk_at dksX0_by_1 4 rfl rfl)
abbrev cX0_played : ByteArray := prog_1_method_28_code
def yX0_played : MethodName := ⟨RX0, "played", "(I)I"⟩
def dkwX0_played_2 : List UInt8 := [180, 0, 208, 29, 50, 42, 185, 0, 212, 2, 0, 154, 0, 5, 29, 172, 132, 3, 1, 167, 255, 219, 2, 172]
abbrev dktX0_played_2 : List UInt8 := dkwX0_played_2 ++ []
def dkwX0_played_1 : List UInt8 := [27, 50, 77, 3, 62, 29, 44, 180, 0, 205, 162, 0, 35, 44, 180, 0, 208, 29, 50, 198, 0, 20, 44]
abbrev dktX0_played_1 : List UInt8 := dkwX0_played_1 ++ dktX0_played_2
def dkwX0_played_0 : List UInt8 := [27, 3, 42, 180, 0, 12, 180, 0, 186, 4, 100, 184, 0, 66, 154, 0, 6, 16, 254, 172, 42, 180, 0, 21]
abbrev dktX0_played_0 : List UInt8 := dkwX0_played_0 ++ dktX0_played_1
theorem dksX0_played_0 : cX0_played.data.toList.drop 0 = dktX0_played_0 := by decide +kernel
theorem dksX0_played_1 : cX0_played.data.toList.drop 24 = dktX0_played_1 := dk_seg dksX0_played_0 24 rfl rfl
theorem dksX0_played_2 : cX0_played.data.toList.drop 47 = dktX0_played_2 := dk_seg dksX0_played_1 23 rfl rfl
theorem dX0_played_0 : decode cX0_played 0 = .ok (.iload_n 1, 1) := dk_27 (dk_at dksX0_played_0 0 rfl rfl)
theorem dX0_played_1 : decode cX0_played 1 = .ok (.iconst 0, 1) := dk_3 (dk_at dksX0_played_0 1 rfl rfl)
theorem dX0_played_2 : decode cX0_played 2 = .ok (.aload_n 0, 1) := dk_42 (dk_at dksX0_played_0 2 rfl rfl)
theorem dX0_played_3 : decode cX0_played 3 = .ok (.getfield 12, 3) := dk_180 0 12 (dk_at dksX0_played_0 3 rfl rfl)
theorem dX0_played_6 : decode cX0_played 6 = .ok (.getfield 186, 3) := dk_180 0 186 (dk_at dksX0_played_0 6 rfl rfl)
theorem dX0_played_9 : decode cX0_played 9 = .ok (.iconst 1, 1) := dk_4 (dk_at dksX0_played_0 9 rfl rfl)
theorem dX0_played_10 : decode cX0_played 10 = .ok (.isub, 1) := dk_100 (dk_at dksX0_played_0 10 rfl rfl)
theorem dX0_played_11 : decode cX0_played 11 = .ok (.invokestatic 66, 3) := dk_184 0 66 (dk_at dksX0_played_0 11 rfl rfl)
theorem dX0_played_14 : decode cX0_played 14 = .ok (.ifCond .ne 6, 3) := dk_154 0 6 (dk_at dksX0_played_0 14 rfl rfl)
theorem dX0_played_17 : decode cX0_played 17 = .ok (.bipush (-2), 2) := dk_16 254 (dk_at dksX0_played_0 17 rfl rfl)
theorem dX0_played_19 : decode cX0_played 19 = .ok (.ireturn, 1) := dk_172 (dk_at dksX0_played_0 19 rfl rfl)
theorem dX0_played_20 : decode cX0_played 20 = .ok (.aload_n 0, 1) := dk_42 (dk_at dksX0_played_0 20 rfl rfl)
theorem dX0_played_21 : decode cX0_played 21 = .ok (.getfield 21, 3) := dk_180 0 21 (dk_at dksX0_played_0 21 rfl rfl)
theorem dX0_played_24 : decode cX0_played 24 = .ok (.iload_n 1, 1) := dk_27 (dk_at dksX0_played_1 0 rfl rfl)
theorem dX0_played_25 : decode cX0_played 25 = .ok (.aaload, 1) := dk_50 (dk_at dksX0_played_1 1 rfl rfl)
theorem dX0_played_26 : decode cX0_played 26 = .ok (.astore_n 2, 1) := dk_77 (dk_at dksX0_played_1 2 rfl rfl)
theorem dX0_played_27 : decode cX0_played 27 = .ok (.iconst 0, 1) := dk_3 (dk_at dksX0_played_1 3 rfl rfl)
theorem dX0_played_28 : decode cX0_played 28 = .ok (.istore_n 3, 1) := dk_62 (dk_at dksX0_played_1 4 rfl rfl)
theorem dX0_played_29 : decode cX0_played 29 = .ok (.iload_n 3, 1) := dk_29 (dk_at dksX0_played_1 5 rfl rfl)
theorem dX0_played_30 : decode cX0_played 30 = .ok (.aload_n 2, 1) := dk_44 (dk_at dksX0_played_1 6 rfl rfl)
theorem dX0_played_31 : decode cX0_played 31 = .ok (.getfield 205, 3) := dk_180 0 205 (dk_at dksX0_played_1 7 rfl rfl)
theorem dX0_played_34 : decode cX0_played 34 = .ok (.if_icmp .ge 35, 3) := dk_162 0 35 (dk_at dksX0_played_1 10 rfl rfl)
theorem dX0_played_37 : decode cX0_played 37 = .ok (.aload_n 2, 1) := dk_44 (dk_at dksX0_played_1 13 rfl rfl)
theorem dX0_played_38 : decode cX0_played 38 = .ok (.getfield 208, 3) := dk_180 0 208 (dk_at dksX0_played_1 14 rfl rfl)
theorem dX0_played_41 : decode cX0_played 41 = .ok (.iload_n 3, 1) := dk_29 (dk_at dksX0_played_1 17 rfl rfl)
theorem dX0_played_42 : decode cX0_played 42 = .ok (.aaload, 1) := dk_50 (dk_at dksX0_played_1 18 rfl rfl)
theorem dX0_played_43 : decode cX0_played 43 = .ok (.ifnull 20, 3) := dk_198 0 20 (dk_at dksX0_played_1 19 rfl rfl)
theorem dX0_played_46 : decode cX0_played 46 = .ok (.aload_n 2, 1) := dk_44 (dk_at dksX0_played_1 22 rfl rfl)
theorem dX0_played_47 : decode cX0_played 47 = .ok (.getfield 208, 3) := dk_180 0 208 (dk_at dksX0_played_2 0 rfl rfl)
theorem dX0_played_50 : decode cX0_played 50 = .ok (.iload_n 3, 1) := dk_29 (dk_at dksX0_played_2 3 rfl rfl)
theorem dX0_played_51 : decode cX0_played 51 = .ok (.aaload, 1) := dk_50 (dk_at dksX0_played_2 4 rfl rfl)
theorem dX0_played_52 : decode cX0_played 52 = .ok (.aload_n 0, 1) := dk_42 (dk_at dksX0_played_2 5 rfl rfl)
theorem dX0_played_53 : decode cX0_played 53 = .ok (.invokeinterface 212 2, 5) := by decide +kernel
theorem dX0_played_58 : decode cX0_played 58 = .ok (.ifCond .ne 5, 3) := dk_154 0 5 (dk_at dksX0_played_2 11 rfl rfl)
theorem dX0_played_61 : decode cX0_played 61 = .ok (.iload_n 3, 1) := dk_29 (dk_at dksX0_played_2 14 rfl rfl)
theorem dX0_played_62 : decode cX0_played 62 = .ok (.ireturn, 1) := dk_172 (dk_at dksX0_played_2 15 rfl rfl)
theorem dX0_played_63 : decode cX0_played 63 = .ok (.iinc 3 1, 3) := dk_132 3 1 (dk_at dksX0_played_2 16 rfl rfl)
theorem dX0_played_66 : decode cX0_played 66 = .ok (.goto (-37), 3) := dk_167 255 219 (dk_at dksX0_played_2 19 rfl rfl)
theorem dX0_played_69 : decode cX0_played 69 = .ok (.iconst (-1), 1) := dk_2 (dk_at dksX0_played_2 22 rfl rfl)
theorem dX0_played_70 : decode cX0_played 70 = .ok (.ireturn, 1) := dk_172 (dk_at dksX0_played_2 23 rfl rfl)
abbrev cX0_of : ByteArray := prog_1_method_29_code
def yX0_of : MethodName := ⟨RX0, "of", "(II)I"⟩
def dkwX0_of_6 : List UInt8 := [182, 0, 146, 172, 16, 254, 172]
abbrev dktX0_of_6 : List UInt8 := dkwX0_of_6 ++ []
def dkwX0_of_5 : List UInt8 := [180, 0, 12, 180, 0, 77, 27, 3, 182, 0, 146, 172, 42, 42, 180, 0, 12, 180, 0, 77, 27, 4]
abbrev dktX0_of_5 : List UInt8 := dkwX0_of_5 ++ dktX0_of_6
def dkwX0_of_4 : List UInt8 := [180, 0, 77, 16, 13, 27, 96, 46, 172, 42, 42, 180, 0, 12, 180, 0, 77, 27, 182, 0, 128, 172, 42, 42]
abbrev dktX0_of_4 : List UInt8 := dkwX0_of_4 ++ dktX0_of_5
def dkwX0_of_3 : List UInt8 := [180, 0, 86, 27, 46, 172, 42, 180, 0, 12, 180, 0, 77, 7, 27, 96, 46, 172, 42, 180, 0, 12]
abbrev dktX0_of_3 : List UInt8 := dkwX0_of_3 ++ dktX0_of_4
def dkwX0_of_2 : List UInt8 := [42, 180, 0, 12, 180, 0, 80, 27, 46, 172, 42, 180, 0, 12, 180, 0, 83, 27, 46, 172, 42, 180, 0, 12]
abbrev dktX0_of_2 : List UInt8 := dkwX0_of_2 ++ dktX0_of_3
def dkwX0_of_1 : List UInt8 := [170, 0, 0, 0, 0, 0, 0, 144, 0, 0, 0, 0, 0, 0, 0, 7, 0, 0, 0, 48, 0, 0, 0, 58, 0, 0, 0, 68, 0, 0, 0, 78, 0, 0, 0, 90, 0, 0, 0, 103, 0, 0, 0, 116, 0, 0, 0, 130]
abbrev dktX0_of_1 : List UInt8 := dkwX0_of_1 ++ dktX0_of_2
def dkwX0_of_0 : List UInt8 := [42, 27, 182, 0, 150, 154, 0, 6, 16, 254, 172, 28]
abbrev dktX0_of_0 : List UInt8 := dkwX0_of_0 ++ dktX0_of_1
theorem dksX0_of_0 : cX0_of.data.toList.drop 0 = dktX0_of_0 := by decide +kernel
theorem dksX0_of_1 : cX0_of.data.toList.drop 12 = dktX0_of_1 := dk_seg dksX0_of_0 12 rfl rfl
theorem dksX0_of_2 : cX0_of.data.toList.drop 60 = dktX0_of_2 := dk_seg dksX0_of_1 48 rfl rfl
theorem dksX0_of_3 : cX0_of.data.toList.drop 84 = dktX0_of_3 := dk_seg dksX0_of_2 24 rfl rfl
theorem dksX0_of_4 : cX0_of.data.toList.drop 106 = dktX0_of_4 := dk_seg dksX0_of_3 22 rfl rfl
theorem dksX0_of_5 : cX0_of.data.toList.drop 130 = dktX0_of_5 := dk_seg dksX0_of_4 24 rfl rfl
theorem dksX0_of_6 : cX0_of.data.toList.drop 152 = dktX0_of_6 := dk_seg dksX0_of_5 22 rfl rfl
theorem dX0_of_0 : decode cX0_of 0 = .ok (.aload_n 0, 1) := dk_42 (dk_at dksX0_of_0 0 rfl rfl)
theorem dX0_of_1 : decode cX0_of 1 = .ok (.iload_n 1, 1) := dk_27 (dk_at dksX0_of_0 1 rfl rfl)
theorem dX0_of_2 : decode cX0_of 2 = .ok (.invokevirtual 150, 3) := dk_182 0 150 (dk_at dksX0_of_0 2 rfl rfl)
theorem dX0_of_5 : decode cX0_of 5 = .ok (.ifCond .ne 6, 3) := dk_154 0 6 (dk_at dksX0_of_0 5 rfl rfl)
theorem dX0_of_8 : decode cX0_of 8 = .ok (.bipush (-2), 2) := dk_16 254 (dk_at dksX0_of_0 8 rfl rfl)
theorem dX0_of_10 : decode cX0_of 10 = .ok (.ireturn, 1) := dk_172 (dk_at dksX0_of_0 10 rfl rfl)
theorem dX0_of_11 : decode cX0_of 11 = .ok (.iload_n 2, 1) := dk_28 (dk_at dksX0_of_0 11 rfl rfl)
theorem dX0_of_12 : decode cX0_of 12 = .ok (.tableswitch 144 0 7 #[48, 58, 68, 78, 90, 103, 116, 130], 48) := by decide +kernel
theorem dX0_of_60 : decode cX0_of 60 = .ok (.aload_n 0, 1) := dk_42 (dk_at dksX0_of_2 0 rfl rfl)
theorem dX0_of_61 : decode cX0_of 61 = .ok (.getfield 12, 3) := dk_180 0 12 (dk_at dksX0_of_2 1 rfl rfl)
theorem dX0_of_64 : decode cX0_of 64 = .ok (.getfield 80, 3) := dk_180 0 80 (dk_at dksX0_of_2 4 rfl rfl)
theorem dX0_of_67 : decode cX0_of 67 = .ok (.iload_n 1, 1) := dk_27 (dk_at dksX0_of_2 7 rfl rfl)
theorem dX0_of_68 : decode cX0_of 68 = .ok (.iaload, 1) := dk_46 (dk_at dksX0_of_2 8 rfl rfl)
theorem dX0_of_69 : decode cX0_of 69 = .ok (.ireturn, 1) := dk_172 (dk_at dksX0_of_2 9 rfl rfl)
theorem dX0_of_70 : decode cX0_of 70 = .ok (.aload_n 0, 1) := dk_42 (dk_at dksX0_of_2 10 rfl rfl)
theorem dX0_of_71 : decode cX0_of 71 = .ok (.getfield 12, 3) := dk_180 0 12 (dk_at dksX0_of_2 11 rfl rfl)
theorem dX0_of_74 : decode cX0_of 74 = .ok (.getfield 83, 3) := dk_180 0 83 (dk_at dksX0_of_2 14 rfl rfl)
theorem dX0_of_77 : decode cX0_of 77 = .ok (.iload_n 1, 1) := dk_27 (dk_at dksX0_of_2 17 rfl rfl)
theorem dX0_of_78 : decode cX0_of 78 = .ok (.iaload, 1) := dk_46 (dk_at dksX0_of_2 18 rfl rfl)
theorem dX0_of_79 : decode cX0_of 79 = .ok (.ireturn, 1) := dk_172 (dk_at dksX0_of_2 19 rfl rfl)
theorem dX0_of_80 : decode cX0_of 80 = .ok (.aload_n 0, 1) := dk_42 (dk_at dksX0_of_2 20 rfl rfl)
theorem dX0_of_81 : decode cX0_of 81 = .ok (.getfield 12, 3) := dk_180 0 12 (dk_at dksX0_of_2 21 rfl rfl)
theorem dX0_of_84 : decode cX0_of 84 = .ok (.getfield 86, 3) := dk_180 0 86 (dk_at dksX0_of_3 0 rfl rfl)
theorem dX0_of_87 : decode cX0_of 87 = .ok (.iload_n 1, 1) := dk_27 (dk_at dksX0_of_3 3 rfl rfl)
theorem dX0_of_88 : decode cX0_of 88 = .ok (.iaload, 1) := dk_46 (dk_at dksX0_of_3 4 rfl rfl)
theorem dX0_of_89 : decode cX0_of 89 = .ok (.ireturn, 1) := dk_172 (dk_at dksX0_of_3 5 rfl rfl)
theorem dX0_of_90 : decode cX0_of 90 = .ok (.aload_n 0, 1) := dk_42 (dk_at dksX0_of_3 6 rfl rfl)
theorem dX0_of_91 : decode cX0_of 91 = .ok (.getfield 12, 3) := dk_180 0 12 (dk_at dksX0_of_3 7 rfl rfl)
theorem dX0_of_94 : decode cX0_of 94 = .ok (.getfield 77, 3) := dk_180 0 77 (dk_at dksX0_of_3 10 rfl rfl)
theorem dX0_of_97 : decode cX0_of 97 = .ok (.iconst 4, 1) := dk_7 (dk_at dksX0_of_3 13 rfl rfl)
theorem dX0_of_98 : decode cX0_of 98 = .ok (.iload_n 1, 1) := dk_27 (dk_at dksX0_of_3 14 rfl rfl)
theorem dX0_of_99 : decode cX0_of 99 = .ok (.iadd, 1) := dk_96 (dk_at dksX0_of_3 15 rfl rfl)
theorem dX0_of_100 : decode cX0_of 100 = .ok (.iaload, 1) := dk_46 (dk_at dksX0_of_3 16 rfl rfl)
theorem dX0_of_101 : decode cX0_of 101 = .ok (.ireturn, 1) := dk_172 (dk_at dksX0_of_3 17 rfl rfl)
theorem dX0_of_102 : decode cX0_of 102 = .ok (.aload_n 0, 1) := dk_42 (dk_at dksX0_of_3 18 rfl rfl)
theorem dX0_of_103 : decode cX0_of 103 = .ok (.getfield 12, 3) := dk_180 0 12 (dk_at dksX0_of_3 19 rfl rfl)
theorem dX0_of_106 : decode cX0_of 106 = .ok (.getfield 77, 3) := dk_180 0 77 (dk_at dksX0_of_4 0 rfl rfl)
theorem dX0_of_109 : decode cX0_of 109 = .ok (.bipush 13, 2) := dk_16 13 (dk_at dksX0_of_4 3 rfl rfl)
theorem dX0_of_111 : decode cX0_of 111 = .ok (.iload_n 1, 1) := dk_27 (dk_at dksX0_of_4 5 rfl rfl)
theorem dX0_of_112 : decode cX0_of 112 = .ok (.iadd, 1) := dk_96 (dk_at dksX0_of_4 6 rfl rfl)
theorem dX0_of_113 : decode cX0_of 113 = .ok (.iaload, 1) := dk_46 (dk_at dksX0_of_4 7 rfl rfl)
theorem dX0_of_114 : decode cX0_of 114 = .ok (.ireturn, 1) := dk_172 (dk_at dksX0_of_4 8 rfl rfl)
theorem dX0_of_115 : decode cX0_of 115 = .ok (.aload_n 0, 1) := dk_42 (dk_at dksX0_of_4 9 rfl rfl)
theorem dX0_of_116 : decode cX0_of 116 = .ok (.aload_n 0, 1) := dk_42 (dk_at dksX0_of_4 10 rfl rfl)
theorem dX0_of_117 : decode cX0_of 117 = .ok (.getfield 12, 3) := dk_180 0 12 (dk_at dksX0_of_4 11 rfl rfl)
theorem dX0_of_120 : decode cX0_of 120 = .ok (.getfield 77, 3) := dk_180 0 77 (dk_at dksX0_of_4 14 rfl rfl)
theorem dX0_of_123 : decode cX0_of 123 = .ok (.iload_n 1, 1) := dk_27 (dk_at dksX0_of_4 17 rfl rfl)
theorem dX0_of_124 : decode cX0_of 124 = .ok (.invokevirtual 128, 3) := dk_182 0 128 (dk_at dksX0_of_4 18 rfl rfl)
theorem dX0_of_127 : decode cX0_of 127 = .ok (.ireturn, 1) := dk_172 (dk_at dksX0_of_4 21 rfl rfl)
theorem dX0_of_128 : decode cX0_of 128 = .ok (.aload_n 0, 1) := dk_42 (dk_at dksX0_of_4 22 rfl rfl)
theorem dX0_of_129 : decode cX0_of 129 = .ok (.aload_n 0, 1) := dk_42 (dk_at dksX0_of_4 23 rfl rfl)
theorem dX0_of_130 : decode cX0_of 130 = .ok (.getfield 12, 3) := dk_180 0 12 (dk_at dksX0_of_5 0 rfl rfl)
theorem dX0_of_133 : decode cX0_of 133 = .ok (.getfield 77, 3) := dk_180 0 77 (dk_at dksX0_of_5 3 rfl rfl)
theorem dX0_of_136 : decode cX0_of 136 = .ok (.iload_n 1, 1) := dk_27 (dk_at dksX0_of_5 6 rfl rfl)
theorem dX0_of_137 : decode cX0_of 137 = .ok (.iconst 0, 1) := dk_3 (dk_at dksX0_of_5 7 rfl rfl)
theorem dX0_of_138 : decode cX0_of 138 = .ok (.invokevirtual 146, 3) := dk_182 0 146 (dk_at dksX0_of_5 8 rfl rfl)
theorem dX0_of_141 : decode cX0_of 141 = .ok (.ireturn, 1) := dk_172 (dk_at dksX0_of_5 11 rfl rfl)
theorem dX0_of_142 : decode cX0_of 142 = .ok (.aload_n 0, 1) := dk_42 (dk_at dksX0_of_5 12 rfl rfl)
theorem dX0_of_143 : decode cX0_of 143 = .ok (.aload_n 0, 1) := dk_42 (dk_at dksX0_of_5 13 rfl rfl)
theorem dX0_of_144 : decode cX0_of 144 = .ok (.getfield 12, 3) := dk_180 0 12 (dk_at dksX0_of_5 14 rfl rfl)
theorem dX0_of_147 : decode cX0_of 147 = .ok (.getfield 77, 3) := dk_180 0 77 (dk_at dksX0_of_5 17 rfl rfl)
theorem dX0_of_150 : decode cX0_of 150 = .ok (.iload_n 1, 1) := dk_27 (dk_at dksX0_of_5 20 rfl rfl)
theorem dX0_of_151 : decode cX0_of 151 = .ok (.iconst 1, 1) := dk_4 (dk_at dksX0_of_5 21 rfl rfl)
theorem dX0_of_152 : decode cX0_of 152 = .ok (.invokevirtual 146, 3) := dk_182 0 146 (dk_at dksX0_of_6 0 rfl rfl)
theorem dX0_of_155 : decode cX0_of 155 = .ok (.ireturn, 1) := dk_172 (dk_at dksX0_of_6 3 rfl rfl)
theorem dX0_of_156 : decode cX0_of 156 = .ok (.bipush (-2), 2) := dk_16 254 (dk_at dksX0_of_6 4 rfl rfl)
theorem dX0_of_158 : decode cX0_of 158 = .ok (.ireturn, 1) := dk_172 (dk_at dksX0_of_6 6 rfl rfl)
abbrev cX0_written : ByteArray := prog_1_method_30_code
def yX0_written : MethodName := ⟨RX0, "written", "(II)I"⟩
def dkwX0_written_2 : List UInt8 := [180, 0, 12, 180, 0, 156, 27, 50, 28, 46, 167, 0, 5, 16, 254, 172]
abbrev dktX0_written_2 : List UInt8 := dkwX0_written_2 ++ []
def dkwX0_written_1 : List UInt8 := [180, 0, 77, 16, 23, 46, 4, 100, 184, 0, 66, 153, 0, 26, 28, 3, 6, 184, 0, 66, 153, 0, 17, 42]
abbrev dktX0_written_1 : List UInt8 := dkwX0_written_1 ++ dktX0_written_2
def dkwX0_written_0 : List UInt8 := [27, 2, 160, 0, 14, 42, 180, 0, 12, 180, 0, 77, 16, 23, 46, 172, 27, 3, 42, 180, 0, 12]
abbrev dktX0_written_0 : List UInt8 := dkwX0_written_0 ++ dktX0_written_1
theorem dksX0_written_0 : cX0_written.data.toList.drop 0 = dktX0_written_0 := by decide +kernel
theorem dksX0_written_1 : cX0_written.data.toList.drop 22 = dktX0_written_1 := dk_seg dksX0_written_0 22 rfl rfl
theorem dksX0_written_2 : cX0_written.data.toList.drop 46 = dktX0_written_2 := dk_seg dksX0_written_1 24 rfl rfl
theorem dX0_written_0 : decode cX0_written 0 = .ok (.iload_n 1, 1) := dk_27 (dk_at dksX0_written_0 0 rfl rfl)
theorem dX0_written_1 : decode cX0_written 1 = .ok (.iconst (-1), 1) := dk_2 (dk_at dksX0_written_0 1 rfl rfl)
theorem dX0_written_2 : decode cX0_written 2 = .ok (.if_icmp .ne 14, 3) := dk_160 0 14 (dk_at dksX0_written_0 2 rfl rfl)
theorem dX0_written_5 : decode cX0_written 5 = .ok (.aload_n 0, 1) := dk_42 (dk_at dksX0_written_0 5 rfl rfl)
theorem dX0_written_6 : decode cX0_written 6 = .ok (.getfield 12, 3) := dk_180 0 12 (dk_at dksX0_written_0 6 rfl rfl)
theorem dX0_written_9 : decode cX0_written 9 = .ok (.getfield 77, 3) := dk_180 0 77 (dk_at dksX0_written_0 9 rfl rfl)
theorem dX0_written_12 : decode cX0_written 12 = .ok (.bipush 23, 2) := dk_16 23 (dk_at dksX0_written_0 12 rfl rfl)
theorem dX0_written_14 : decode cX0_written 14 = .ok (.iaload, 1) := dk_46 (dk_at dksX0_written_0 14 rfl rfl)
theorem dX0_written_15 : decode cX0_written 15 = .ok (.ireturn, 1) := dk_172 (dk_at dksX0_written_0 15 rfl rfl)
theorem dX0_written_16 : decode cX0_written 16 = .ok (.iload_n 1, 1) := dk_27 (dk_at dksX0_written_0 16 rfl rfl)
theorem dX0_written_17 : decode cX0_written 17 = .ok (.iconst 0, 1) := dk_3 (dk_at dksX0_written_0 17 rfl rfl)
theorem dX0_written_18 : decode cX0_written 18 = .ok (.aload_n 0, 1) := dk_42 (dk_at dksX0_written_0 18 rfl rfl)
theorem dX0_written_19 : decode cX0_written 19 = .ok (.getfield 12, 3) := dk_180 0 12 (dk_at dksX0_written_0 19 rfl rfl)
theorem dX0_written_22 : decode cX0_written 22 = .ok (.getfield 77, 3) := dk_180 0 77 (dk_at dksX0_written_1 0 rfl rfl)
theorem dX0_written_25 : decode cX0_written 25 = .ok (.bipush 23, 2) := dk_16 23 (dk_at dksX0_written_1 3 rfl rfl)
theorem dX0_written_27 : decode cX0_written 27 = .ok (.iaload, 1) := dk_46 (dk_at dksX0_written_1 5 rfl rfl)
theorem dX0_written_28 : decode cX0_written 28 = .ok (.iconst 1, 1) := dk_4 (dk_at dksX0_written_1 6 rfl rfl)
theorem dX0_written_29 : decode cX0_written 29 = .ok (.isub, 1) := dk_100 (dk_at dksX0_written_1 7 rfl rfl)
theorem dX0_written_30 : decode cX0_written 30 = .ok (.invokestatic 66, 3) := dk_184 0 66 (dk_at dksX0_written_1 8 rfl rfl)
theorem dX0_written_33 : decode cX0_written 33 = .ok (.ifCond .eq 26, 3) := dk_153 0 26 (dk_at dksX0_written_1 11 rfl rfl)
theorem dX0_written_36 : decode cX0_written 36 = .ok (.iload_n 2, 1) := dk_28 (dk_at dksX0_written_1 14 rfl rfl)
theorem dX0_written_37 : decode cX0_written 37 = .ok (.iconst 0, 1) := dk_3 (dk_at dksX0_written_1 15 rfl rfl)
theorem dX0_written_38 : decode cX0_written 38 = .ok (.iconst 3, 1) := dk_6 (dk_at dksX0_written_1 16 rfl rfl)
theorem dX0_written_39 : decode cX0_written 39 = .ok (.invokestatic 66, 3) := dk_184 0 66 (dk_at dksX0_written_1 17 rfl rfl)
theorem dX0_written_42 : decode cX0_written 42 = .ok (.ifCond .eq 17, 3) := dk_153 0 17 (dk_at dksX0_written_1 20 rfl rfl)
theorem dX0_written_45 : decode cX0_written 45 = .ok (.aload_n 0, 1) := dk_42 (dk_at dksX0_written_1 23 rfl rfl)
theorem dX0_written_46 : decode cX0_written 46 = .ok (.getfield 12, 3) := dk_180 0 12 (dk_at dksX0_written_2 0 rfl rfl)
theorem dX0_written_49 : decode cX0_written 49 = .ok (.getfield 156, 3) := dk_180 0 156 (dk_at dksX0_written_2 3 rfl rfl)
theorem dX0_written_52 : decode cX0_written 52 = .ok (.iload_n 1, 1) := dk_27 (dk_at dksX0_written_2 6 rfl rfl)
theorem dX0_written_53 : decode cX0_written 53 = .ok (.aaload, 1) := dk_50 (dk_at dksX0_written_2 7 rfl rfl)
theorem dX0_written_54 : decode cX0_written 54 = .ok (.iload_n 2, 1) := dk_28 (dk_at dksX0_written_2 8 rfl rfl)
theorem dX0_written_55 : decode cX0_written 55 = .ok (.iaload, 1) := dk_46 (dk_at dksX0_written_2 9 rfl rfl)
theorem dX0_written_56 : decode cX0_written 56 = .ok (.goto 5, 3) := dk_167 0 5 (dk_at dksX0_written_2 10 rfl rfl)
theorem dX0_written_59 : decode cX0_written 59 = .ok (.bipush (-2), 2) := dk_16 254 (dk_at dksX0_written_2 13 rfl rfl)
theorem dX0_written_61 : decode cX0_written 61 = .ok (.ireturn, 1) := dk_172 (dk_at dksX0_written_2 15 rfl rfl)
abbrev cX0_dent : ByteArray := prog_1_method_31_code
def yX0_dent : MethodName := ⟨RX0, "dent", "(II)I"⟩
def dkwX0_dent_2 : List UInt8 := [180, 0, 12, 180, 0, 166, 27, 50, 28, 46, 167, 0, 6, 17, 216, 241, 172]
abbrev dktX0_dent_2 : List UInt8 := dkwX0_dent_2 ++ []
def dkwX0_dent_1 : List UInt8 := [180, 0, 77, 16, 24, 46, 4, 100, 184, 0, 66, 153, 0, 26, 28, 3, 5, 184, 0, 66, 153, 0, 17, 42]
abbrev dktX0_dent_1 : List UInt8 := dkwX0_dent_1 ++ dktX0_dent_2
def dkwX0_dent_0 : List UInt8 := [27, 2, 160, 0, 14, 42, 180, 0, 12, 180, 0, 77, 16, 24, 46, 172, 27, 3, 42, 180, 0, 12]
abbrev dktX0_dent_0 : List UInt8 := dkwX0_dent_0 ++ dktX0_dent_1
theorem dksX0_dent_0 : cX0_dent.data.toList.drop 0 = dktX0_dent_0 := by decide +kernel
theorem dksX0_dent_1 : cX0_dent.data.toList.drop 22 = dktX0_dent_1 := dk_seg dksX0_dent_0 22 rfl rfl
theorem dksX0_dent_2 : cX0_dent.data.toList.drop 46 = dktX0_dent_2 := dk_seg dksX0_dent_1 24 rfl rfl
theorem dX0_dent_0 : decode cX0_dent 0 = .ok (.iload_n 1, 1) := dk_27 (dk_at dksX0_dent_0 0 rfl rfl)
theorem dX0_dent_1 : decode cX0_dent 1 = .ok (.iconst (-1), 1) := dk_2 (dk_at dksX0_dent_0 1 rfl rfl)
theorem dX0_dent_2 : decode cX0_dent 2 = .ok (.if_icmp .ne 14, 3) := dk_160 0 14 (dk_at dksX0_dent_0 2 rfl rfl)
theorem dX0_dent_5 : decode cX0_dent 5 = .ok (.aload_n 0, 1) := dk_42 (dk_at dksX0_dent_0 5 rfl rfl)
theorem dX0_dent_6 : decode cX0_dent 6 = .ok (.getfield 12, 3) := dk_180 0 12 (dk_at dksX0_dent_0 6 rfl rfl)
theorem dX0_dent_9 : decode cX0_dent 9 = .ok (.getfield 77, 3) := dk_180 0 77 (dk_at dksX0_dent_0 9 rfl rfl)
theorem dX0_dent_12 : decode cX0_dent 12 = .ok (.bipush 24, 2) := dk_16 24 (dk_at dksX0_dent_0 12 rfl rfl)
theorem dX0_dent_14 : decode cX0_dent 14 = .ok (.iaload, 1) := dk_46 (dk_at dksX0_dent_0 14 rfl rfl)
theorem dX0_dent_15 : decode cX0_dent 15 = .ok (.ireturn, 1) := dk_172 (dk_at dksX0_dent_0 15 rfl rfl)
theorem dX0_dent_16 : decode cX0_dent 16 = .ok (.iload_n 1, 1) := dk_27 (dk_at dksX0_dent_0 16 rfl rfl)
theorem dX0_dent_17 : decode cX0_dent 17 = .ok (.iconst 0, 1) := dk_3 (dk_at dksX0_dent_0 17 rfl rfl)
theorem dX0_dent_18 : decode cX0_dent 18 = .ok (.aload_n 0, 1) := dk_42 (dk_at dksX0_dent_0 18 rfl rfl)
theorem dX0_dent_19 : decode cX0_dent 19 = .ok (.getfield 12, 3) := dk_180 0 12 (dk_at dksX0_dent_0 19 rfl rfl)
theorem dX0_dent_22 : decode cX0_dent 22 = .ok (.getfield 77, 3) := dk_180 0 77 (dk_at dksX0_dent_1 0 rfl rfl)
theorem dX0_dent_25 : decode cX0_dent 25 = .ok (.bipush 24, 2) := dk_16 24 (dk_at dksX0_dent_1 3 rfl rfl)
theorem dX0_dent_27 : decode cX0_dent 27 = .ok (.iaload, 1) := dk_46 (dk_at dksX0_dent_1 5 rfl rfl)
theorem dX0_dent_28 : decode cX0_dent 28 = .ok (.iconst 1, 1) := dk_4 (dk_at dksX0_dent_1 6 rfl rfl)
theorem dX0_dent_29 : decode cX0_dent 29 = .ok (.isub, 1) := dk_100 (dk_at dksX0_dent_1 7 rfl rfl)
theorem dX0_dent_30 : decode cX0_dent 30 = .ok (.invokestatic 66, 3) := dk_184 0 66 (dk_at dksX0_dent_1 8 rfl rfl)
theorem dX0_dent_33 : decode cX0_dent 33 = .ok (.ifCond .eq 26, 3) := dk_153 0 26 (dk_at dksX0_dent_1 11 rfl rfl)
theorem dX0_dent_36 : decode cX0_dent 36 = .ok (.iload_n 2, 1) := dk_28 (dk_at dksX0_dent_1 14 rfl rfl)
theorem dX0_dent_37 : decode cX0_dent 37 = .ok (.iconst 0, 1) := dk_3 (dk_at dksX0_dent_1 15 rfl rfl)
theorem dX0_dent_38 : decode cX0_dent 38 = .ok (.iconst 2, 1) := dk_5 (dk_at dksX0_dent_1 16 rfl rfl)
theorem dX0_dent_39 : decode cX0_dent 39 = .ok (.invokestatic 66, 3) := dk_184 0 66 (dk_at dksX0_dent_1 17 rfl rfl)
theorem dX0_dent_42 : decode cX0_dent 42 = .ok (.ifCond .eq 17, 3) := dk_153 0 17 (dk_at dksX0_dent_1 20 rfl rfl)
theorem dX0_dent_45 : decode cX0_dent 45 = .ok (.aload_n 0, 1) := dk_42 (dk_at dksX0_dent_1 23 rfl rfl)
theorem dX0_dent_46 : decode cX0_dent 46 = .ok (.getfield 12, 3) := dk_180 0 12 (dk_at dksX0_dent_2 0 rfl rfl)
theorem dX0_dent_49 : decode cX0_dent 49 = .ok (.getfield 166, 3) := dk_180 0 166 (dk_at dksX0_dent_2 3 rfl rfl)
theorem dX0_dent_52 : decode cX0_dent 52 = .ok (.iload_n 1, 1) := dk_27 (dk_at dksX0_dent_2 6 rfl rfl)
theorem dX0_dent_53 : decode cX0_dent 53 = .ok (.aaload, 1) := dk_50 (dk_at dksX0_dent_2 7 rfl rfl)
theorem dX0_dent_54 : decode cX0_dent 54 = .ok (.iload_n 2, 1) := dk_28 (dk_at dksX0_dent_2 8 rfl rfl)
theorem dX0_dent_55 : decode cX0_dent 55 = .ok (.iaload, 1) := dk_46 (dk_at dksX0_dent_2 9 rfl rfl)
theorem dX0_dent_56 : decode cX0_dent 56 = .ok (.goto 6, 3) := dk_167 0 6 (dk_at dksX0_dent_2 10 rfl rfl)
theorem dX0_dent_59 : decode cX0_dent 59 = .ok (.sipush (-9999), 3) := dk_17 216 241 (dk_at dksX0_dent_2 13 rfl rfl)
theorem dX0_dent_62 : decode cX0_dent 62 = .ok (.ireturn, 1) := dk_172 (dk_at dksX0_dent_2 16 rfl rfl)
abbrev cX0_called : ByteArray := prog_1_method_34_code
def yX0_called : MethodName := ⟨RX0, "called", "(III)I"⟩
def dkwX0_called_3 : List UInt8 := [42, 180, 0, 221, 167, 0, 9, 42, 180, 0, 57, 29, 46, 172]
abbrev dktX0_called_3 : List UInt8 := dkwX0_called_3 ++ []
def dkwX0_called_2 : List UInt8 := [3, 16, 25, 184, 0, 224, 42, 18, 242, 181, 0, 221, 42, 27, 28, 3, 182, 0, 230, 29, 2, 160, 0, 10]
abbrev dktX0_called_2 : List UInt8 := dkwX0_called_2 ++ dktX0_called_3
def dkwX0_called_1 : List UInt8 := [184, 0, 66, 154, 0, 7, 17, 216, 241, 172, 42, 180, 0, 12, 180, 0, 77, 3, 42, 180, 0, 50, 3, 50]
abbrev dktX0_called_1 : List UInt8 := dkwX0_called_1 ++ dktX0_called_2
def dkwX0_called_0 : List UInt8 := [42, 27, 182, 0, 239, 153, 0, 24, 28, 184, 0, 74, 153, 0, 17, 29, 2, 27, 184, 0, 234, 4, 100]
abbrev dktX0_called_0 : List UInt8 := dkwX0_called_0 ++ dktX0_called_1
theorem dksX0_called_0 : cX0_called.data.toList.drop 0 = dktX0_called_0 := by decide +kernel
theorem dksX0_called_1 : cX0_called.data.toList.drop 23 = dktX0_called_1 := dk_seg dksX0_called_0 23 rfl rfl
theorem dksX0_called_2 : cX0_called.data.toList.drop 47 = dktX0_called_2 := dk_seg dksX0_called_1 24 rfl rfl
theorem dksX0_called_3 : cX0_called.data.toList.drop 71 = dktX0_called_3 := dk_seg dksX0_called_2 24 rfl rfl
theorem dX0_called_0 : decode cX0_called 0 = .ok (.aload_n 0, 1) := dk_42 (dk_at dksX0_called_0 0 rfl rfl)
theorem dX0_called_1 : decode cX0_called 1 = .ok (.iload_n 1, 1) := dk_27 (dk_at dksX0_called_0 1 rfl rfl)
theorem dX0_called_2 : decode cX0_called 2 = .ok (.invokevirtual 239, 3) := dk_182 0 239 (dk_at dksX0_called_0 2 rfl rfl)
theorem dX0_called_5 : decode cX0_called 5 = .ok (.ifCond .eq 24, 3) := dk_153 0 24 (dk_at dksX0_called_0 5 rfl rfl)
theorem dX0_called_8 : decode cX0_called 8 = .ok (.iload_n 2, 1) := dk_28 (dk_at dksX0_called_0 8 rfl rfl)
theorem dX0_called_9 : decode cX0_called 9 = .ok (.invokestatic 74, 3) := dk_184 0 74 (dk_at dksX0_called_0 9 rfl rfl)
theorem dX0_called_12 : decode cX0_called 12 = .ok (.ifCond .eq 17, 3) := dk_153 0 17 (dk_at dksX0_called_0 12 rfl rfl)
theorem dX0_called_15 : decode cX0_called 15 = .ok (.iload_n 3, 1) := dk_29 (dk_at dksX0_called_0 15 rfl rfl)
theorem dX0_called_16 : decode cX0_called 16 = .ok (.iconst (-1), 1) := dk_2 (dk_at dksX0_called_0 16 rfl rfl)
theorem dX0_called_17 : decode cX0_called 17 = .ok (.iload_n 1, 1) := dk_27 (dk_at dksX0_called_0 17 rfl rfl)
theorem dX0_called_18 : decode cX0_called 18 = .ok (.invokestatic 234, 3) := dk_184 0 234 (dk_at dksX0_called_0 18 rfl rfl)
theorem dX0_called_21 : decode cX0_called 21 = .ok (.iconst 1, 1) := dk_4 (dk_at dksX0_called_0 21 rfl rfl)
theorem dX0_called_22 : decode cX0_called 22 = .ok (.isub, 1) := dk_100 (dk_at dksX0_called_0 22 rfl rfl)
theorem dX0_called_23 : decode cX0_called 23 = .ok (.invokestatic 66, 3) := dk_184 0 66 (dk_at dksX0_called_1 0 rfl rfl)
theorem dX0_called_26 : decode cX0_called 26 = .ok (.ifCond .ne 7, 3) := dk_154 0 7 (dk_at dksX0_called_1 3 rfl rfl)
theorem dX0_called_29 : decode cX0_called 29 = .ok (.sipush (-9999), 3) := dk_17 216 241 (dk_at dksX0_called_1 6 rfl rfl)
theorem dX0_called_32 : decode cX0_called 32 = .ok (.ireturn, 1) := dk_172 (dk_at dksX0_called_1 9 rfl rfl)
theorem dX0_called_33 : decode cX0_called 33 = .ok (.aload_n 0, 1) := dk_42 (dk_at dksX0_called_1 10 rfl rfl)
theorem dX0_called_34 : decode cX0_called 34 = .ok (.getfield 12, 3) := dk_180 0 12 (dk_at dksX0_called_1 11 rfl rfl)
theorem dX0_called_37 : decode cX0_called 37 = .ok (.getfield 77, 3) := dk_180 0 77 (dk_at dksX0_called_1 14 rfl rfl)
theorem dX0_called_40 : decode cX0_called 40 = .ok (.iconst 0, 1) := dk_3 (dk_at dksX0_called_1 17 rfl rfl)
theorem dX0_called_41 : decode cX0_called 41 = .ok (.aload_n 0, 1) := dk_42 (dk_at dksX0_called_1 18 rfl rfl)
theorem dX0_called_42 : decode cX0_called 42 = .ok (.getfield 50, 3) := dk_180 0 50 (dk_at dksX0_called_1 19 rfl rfl)
theorem dX0_called_45 : decode cX0_called 45 = .ok (.iconst 0, 1) := dk_3 (dk_at dksX0_called_1 22 rfl rfl)
theorem dX0_called_46 : decode cX0_called 46 = .ok (.aaload, 1) := dk_50 (dk_at dksX0_called_1 23 rfl rfl)
theorem dX0_called_47 : decode cX0_called 47 = .ok (.iconst 0, 1) := dk_3 (dk_at dksX0_called_2 0 rfl rfl)
theorem dX0_called_48 : decode cX0_called 48 = .ok (.bipush 25, 2) := dk_16 25 (dk_at dksX0_called_2 1 rfl rfl)
theorem dX0_called_50 : decode cX0_called 50 = .ok (.invokestatic 224, 3) := dk_184 0 224 (dk_at dksX0_called_2 3 rfl rfl)
theorem dX0_called_53 : decode cX0_called 53 = .ok (.aload_n 0, 1) := dk_42 (dk_at dksX0_called_2 6 rfl rfl)
theorem dX0_called_54 : decode cX0_called 54 = .ok (.ldc 242, 2) := dk_18 242 (dk_at dksX0_called_2 7 rfl rfl)
theorem dX0_called_56 : decode cX0_called 56 = .ok (.putfield 221, 3) := dk_181 0 221 (dk_at dksX0_called_2 9 rfl rfl)
theorem dX0_called_59 : decode cX0_called 59 = .ok (.aload_n 0, 1) := dk_42 (dk_at dksX0_called_2 12 rfl rfl)
theorem dX0_called_60 : decode cX0_called 60 = .ok (.iload_n 1, 1) := dk_27 (dk_at dksX0_called_2 13 rfl rfl)
theorem dX0_called_61 : decode cX0_called 61 = .ok (.iload_n 2, 1) := dk_28 (dk_at dksX0_called_2 14 rfl rfl)
theorem dX0_called_62 : decode cX0_called 62 = .ok (.iconst 0, 1) := dk_3 (dk_at dksX0_called_2 15 rfl rfl)
theorem dX0_called_63 : decode cX0_called 63 = .ok (.invokevirtual 230, 3) := dk_182 0 230 (dk_at dksX0_called_2 16 rfl rfl)
theorem dX0_called_66 : decode cX0_called 66 = .ok (.iload_n 3, 1) := dk_29 (dk_at dksX0_called_2 19 rfl rfl)
theorem dX0_called_67 : decode cX0_called 67 = .ok (.iconst (-1), 1) := dk_2 (dk_at dksX0_called_2 20 rfl rfl)
theorem dX0_called_68 : decode cX0_called 68 = .ok (.if_icmp .ne 10, 3) := dk_160 0 10 (dk_at dksX0_called_2 21 rfl rfl)
theorem dX0_called_71 : decode cX0_called 71 = .ok (.aload_n 0, 1) := dk_42 (dk_at dksX0_called_3 0 rfl rfl)
theorem dX0_called_72 : decode cX0_called 72 = .ok (.getfield 221, 3) := dk_180 0 221 (dk_at dksX0_called_3 1 rfl rfl)
theorem dX0_called_75 : decode cX0_called 75 = .ok (.goto 9, 3) := dk_167 0 9 (dk_at dksX0_called_3 4 rfl rfl)
theorem dX0_called_78 : decode cX0_called 78 = .ok (.aload_n 0, 1) := dk_42 (dk_at dksX0_called_3 7 rfl rfl)
theorem dX0_called_79 : decode cX0_called 79 = .ok (.getfield 57, 3) := dk_180 0 57 (dk_at dksX0_called_3 8 rfl rfl)
theorem dX0_called_82 : decode cX0_called 82 = .ok (.iload_n 3, 1) := dk_29 (dk_at dksX0_called_3 11 rfl rfl)
theorem dX0_called_83 : decode cX0_called 83 = .ok (.iaload, 1) := dk_46 (dk_at dksX0_called_3 12 rfl rfl)
theorem dX0_called_84 : decode cX0_called 84 = .ok (.ireturn, 1) := dk_172 (dk_at dksX0_called_3 13 rfl rfl)
abbrev cX0_canCall : ByteArray := prog_1_method_33_code
def yX0_canCall : MethodName := ⟨RX0, "canCall", "(I)Z"⟩
def dkwX0_canCall_3 : List UInt8 := [132, 2, 1, 167, 255, 216, 4, 172]
abbrev dktX0_canCall_3 : List UInt8 := dkwX0_canCall_3 ++ []
def dkwX0_canCall_2 : List UInt8 := [126, 4, 160, 0, 20, 42, 180, 0, 12, 180, 0, 77, 7, 28, 96, 46, 5, 160, 0, 5, 3, 172]
abbrev dktX0_canCall_2 : List UInt8 := dkwX0_canCall_2 ++ dktX0_canCall_3
def dkwX0_canCall_1 : List UInt8 := [16, 6, 164, 0, 5, 3, 172, 3, 61, 28, 42, 180, 0, 12, 180, 0, 63, 162, 0, 35, 27, 28, 122, 4]
abbrev dktX0_canCall_1 : List UInt8 := dkwX0_canCall_1 ++ dktX0_canCall_2
def dkwX0_canCall_0 : List UInt8 := [27, 4, 4, 42, 180, 0, 12, 180, 0, 63, 120, 4, 100, 184, 0, 66, 153, 0, 12, 27, 184, 0, 234]
abbrev dktX0_canCall_0 : List UInt8 := dkwX0_canCall_0 ++ dktX0_canCall_1
theorem dksX0_canCall_0 : cX0_canCall.data.toList.drop 0 = dktX0_canCall_0 := by decide +kernel
theorem dksX0_canCall_1 : cX0_canCall.data.toList.drop 23 = dktX0_canCall_1 := dk_seg dksX0_canCall_0 23 rfl rfl
theorem dksX0_canCall_2 : cX0_canCall.data.toList.drop 47 = dktX0_canCall_2 := dk_seg dksX0_canCall_1 24 rfl rfl
theorem dksX0_canCall_3 : cX0_canCall.data.toList.drop 69 = dktX0_canCall_3 := dk_seg dksX0_canCall_2 22 rfl rfl
theorem dX0_canCall_0 : decode cX0_canCall 0 = .ok (.iload_n 1, 1) := dk_27 (dk_at dksX0_canCall_0 0 rfl rfl)
theorem dX0_canCall_1 : decode cX0_canCall 1 = .ok (.iconst 1, 1) := dk_4 (dk_at dksX0_canCall_0 1 rfl rfl)
theorem dX0_canCall_2 : decode cX0_canCall 2 = .ok (.iconst 1, 1) := dk_4 (dk_at dksX0_canCall_0 2 rfl rfl)
theorem dX0_canCall_3 : decode cX0_canCall 3 = .ok (.aload_n 0, 1) := dk_42 (dk_at dksX0_canCall_0 3 rfl rfl)
theorem dX0_canCall_4 : decode cX0_canCall 4 = .ok (.getfield 12, 3) := dk_180 0 12 (dk_at dksX0_canCall_0 4 rfl rfl)
theorem dX0_canCall_7 : decode cX0_canCall 7 = .ok (.getfield 63, 3) := dk_180 0 63 (dk_at dksX0_canCall_0 7 rfl rfl)
theorem dX0_canCall_10 : decode cX0_canCall 10 = .ok (.ishl, 1) := dk_120 (dk_at dksX0_canCall_0 10 rfl rfl)
theorem dX0_canCall_11 : decode cX0_canCall 11 = .ok (.iconst 1, 1) := dk_4 (dk_at dksX0_canCall_0 11 rfl rfl)
theorem dX0_canCall_12 : decode cX0_canCall 12 = .ok (.isub, 1) := dk_100 (dk_at dksX0_canCall_0 12 rfl rfl)
theorem dX0_canCall_13 : decode cX0_canCall 13 = .ok (.invokestatic 66, 3) := dk_184 0 66 (dk_at dksX0_canCall_0 13 rfl rfl)
theorem dX0_canCall_16 : decode cX0_canCall 16 = .ok (.ifCond .eq 12, 3) := dk_153 0 12 (dk_at dksX0_canCall_0 16 rfl rfl)
theorem dX0_canCall_19 : decode cX0_canCall 19 = .ok (.iload_n 1, 1) := dk_27 (dk_at dksX0_canCall_0 19 rfl rfl)
theorem dX0_canCall_20 : decode cX0_canCall 20 = .ok (.invokestatic 234, 3) := dk_184 0 234 (dk_at dksX0_canCall_0 20 rfl rfl)
theorem dX0_canCall_23 : decode cX0_canCall 23 = .ok (.bipush 6, 2) := dk_16 6 (dk_at dksX0_canCall_1 0 rfl rfl)
theorem dX0_canCall_25 : decode cX0_canCall 25 = .ok (.if_icmp .le 5, 3) := dk_164 0 5 (dk_at dksX0_canCall_1 2 rfl rfl)
theorem dX0_canCall_28 : decode cX0_canCall 28 = .ok (.iconst 0, 1) := dk_3 (dk_at dksX0_canCall_1 5 rfl rfl)
theorem dX0_canCall_29 : decode cX0_canCall 29 = .ok (.ireturn, 1) := dk_172 (dk_at dksX0_canCall_1 6 rfl rfl)
theorem dX0_canCall_30 : decode cX0_canCall 30 = .ok (.iconst 0, 1) := dk_3 (dk_at dksX0_canCall_1 7 rfl rfl)
theorem dX0_canCall_31 : decode cX0_canCall 31 = .ok (.istore_n 2, 1) := dk_61 (dk_at dksX0_canCall_1 8 rfl rfl)
theorem dX0_canCall_32 : decode cX0_canCall 32 = .ok (.iload_n 2, 1) := dk_28 (dk_at dksX0_canCall_1 9 rfl rfl)
theorem dX0_canCall_33 : decode cX0_canCall 33 = .ok (.aload_n 0, 1) := dk_42 (dk_at dksX0_canCall_1 10 rfl rfl)
theorem dX0_canCall_34 : decode cX0_canCall 34 = .ok (.getfield 12, 3) := dk_180 0 12 (dk_at dksX0_canCall_1 11 rfl rfl)
theorem dX0_canCall_37 : decode cX0_canCall 37 = .ok (.getfield 63, 3) := dk_180 0 63 (dk_at dksX0_canCall_1 14 rfl rfl)
theorem dX0_canCall_40 : decode cX0_canCall 40 = .ok (.if_icmp .ge 35, 3) := dk_162 0 35 (dk_at dksX0_canCall_1 17 rfl rfl)
theorem dX0_canCall_43 : decode cX0_canCall 43 = .ok (.iload_n 1, 1) := dk_27 (dk_at dksX0_canCall_1 20 rfl rfl)
theorem dX0_canCall_44 : decode cX0_canCall 44 = .ok (.iload_n 2, 1) := dk_28 (dk_at dksX0_canCall_1 21 rfl rfl)
theorem dX0_canCall_45 : decode cX0_canCall 45 = .ok (.ishr, 1) := dk_122 (dk_at dksX0_canCall_1 22 rfl rfl)
theorem dX0_canCall_46 : decode cX0_canCall 46 = .ok (.iconst 1, 1) := dk_4 (dk_at dksX0_canCall_1 23 rfl rfl)
theorem dX0_canCall_47 : decode cX0_canCall 47 = .ok (.iand, 1) := dk_126 (dk_at dksX0_canCall_2 0 rfl rfl)
theorem dX0_canCall_48 : decode cX0_canCall 48 = .ok (.iconst 1, 1) := dk_4 (dk_at dksX0_canCall_2 1 rfl rfl)
theorem dX0_canCall_49 : decode cX0_canCall 49 = .ok (.if_icmp .ne 20, 3) := dk_160 0 20 (dk_at dksX0_canCall_2 2 rfl rfl)
theorem dX0_canCall_52 : decode cX0_canCall 52 = .ok (.aload_n 0, 1) := dk_42 (dk_at dksX0_canCall_2 5 rfl rfl)
theorem dX0_canCall_53 : decode cX0_canCall 53 = .ok (.getfield 12, 3) := dk_180 0 12 (dk_at dksX0_canCall_2 6 rfl rfl)
theorem dX0_canCall_56 : decode cX0_canCall 56 = .ok (.getfield 77, 3) := dk_180 0 77 (dk_at dksX0_canCall_2 9 rfl rfl)
theorem dX0_canCall_59 : decode cX0_canCall 59 = .ok (.iconst 4, 1) := dk_7 (dk_at dksX0_canCall_2 12 rfl rfl)
theorem dX0_canCall_60 : decode cX0_canCall 60 = .ok (.iload_n 2, 1) := dk_28 (dk_at dksX0_canCall_2 13 rfl rfl)
theorem dX0_canCall_61 : decode cX0_canCall 61 = .ok (.iadd, 1) := dk_96 (dk_at dksX0_canCall_2 14 rfl rfl)
theorem dX0_canCall_62 : decode cX0_canCall 62 = .ok (.iaload, 1) := dk_46 (dk_at dksX0_canCall_2 15 rfl rfl)
theorem dX0_canCall_63 : decode cX0_canCall 63 = .ok (.iconst 2, 1) := dk_5 (dk_at dksX0_canCall_2 16 rfl rfl)
theorem dX0_canCall_64 : decode cX0_canCall 64 = .ok (.if_icmp .ne 5, 3) := dk_160 0 5 (dk_at dksX0_canCall_2 17 rfl rfl)
theorem dX0_canCall_67 : decode cX0_canCall 67 = .ok (.iconst 0, 1) := dk_3 (dk_at dksX0_canCall_2 20 rfl rfl)
theorem dX0_canCall_68 : decode cX0_canCall 68 = .ok (.ireturn, 1) := dk_172 (dk_at dksX0_canCall_2 21 rfl rfl)
theorem dX0_canCall_69 : decode cX0_canCall 69 = .ok (.iinc 2 1, 3) := dk_132 2 1 (dk_at dksX0_canCall_3 0 rfl rfl)
theorem dX0_canCall_72 : decode cX0_canCall 72 = .ok (.goto (-40), 3) := dk_167 255 216 (dk_at dksX0_canCall_3 3 rfl rfl)
theorem dX0_canCall_75 : decode cX0_canCall 75 = .ok (.iconst 1, 1) := dk_4 (dk_at dksX0_canCall_3 6 rfl rfl)
theorem dX0_canCall_76 : decode cX0_canCall 76 = .ok (.ireturn, 1) := dk_172 (dk_at dksX0_canCall_3 7 rfl rfl)
abbrev cX0_calls : ByteArray := prog_1_method_32_code
def yX0_calls : MethodName := ⟨RX0, "calls", "(III)V"⟩
def dkwX0_calls_6 : List UInt8 := [167, 255, 168, 177]
abbrev dktX0_calls_6 : List UInt8 := dkwX0_calls_6 ++ []
def dkwX0_calls_5 : List UInt8 := [28, 182, 0, 159, 87, 42, 27, 4, 21, 4, 120, 2, 130, 126, 28, 29, 4, 96, 182, 0, 230, 132, 4, 1]
abbrev dktX0_calls_5 : List UInt8 := dkwX0_calls_5 ++ dktX0_calls_6
def dkwX0_calls_4 : List UInt8 := [180, 0, 50, 29, 4, 96, 50, 3, 16, 25, 184, 0, 224, 42, 42, 180, 0, 50, 29, 4, 96, 50, 21, 4]
abbrev dktX0_calls_4 : List UInt8 := dkwX0_calls_4 ++ dktX0_calls_5
def dkwX0_calls_3 : List UInt8 := [126, 154, 0, 6, 167, 0, 64, 42, 180, 0, 53, 29, 21, 4, 79, 42, 180, 0, 50, 29, 50, 3, 42]
abbrev dktX0_calls_3 : List UInt8 := dkwX0_calls_3 ++ dktX0_calls_4
def dkwX0_calls_2 : List UInt8 := [184, 0, 224, 177, 3, 54, 4, 21, 4, 42, 180, 0, 12, 180, 0, 63, 162, 0, 82, 27, 21, 4, 122, 4]
abbrev dktX0_calls_2 : List UInt8 := dkwX0_calls_2 ++ dktX0_calls_3
def dkwX0_calls_1 : List UInt8 := [184, 0, 218, 161, 0, 4, 177, 42, 21, 4, 181, 0, 221, 42, 180, 0, 53, 3, 42, 180, 0, 57, 3, 29]
abbrev dktX0_calls_1 : List UInt8 := dkwX0_calls_1 ++ dktX0_calls_2
def dkwX0_calls_0 : List UInt8 := [27, 154, 0, 51, 42, 180, 0, 50, 29, 50, 184, 0, 132, 54, 4, 21, 4, 184, 0, 218, 42, 180, 0, 221]
abbrev dktX0_calls_0 : List UInt8 := dkwX0_calls_0 ++ dktX0_calls_1
theorem dksX0_calls_0 : cX0_calls.data.toList.drop 0 = dktX0_calls_0 := by decide +kernel
theorem dksX0_calls_1 : cX0_calls.data.toList.drop 24 = dktX0_calls_1 := dk_seg dksX0_calls_0 24 rfl rfl
theorem dksX0_calls_2 : cX0_calls.data.toList.drop 48 = dktX0_calls_2 := dk_seg dksX0_calls_1 24 rfl rfl
theorem dksX0_calls_3 : cX0_calls.data.toList.drop 72 = dktX0_calls_3 := dk_seg dksX0_calls_2 24 rfl rfl
theorem dksX0_calls_4 : cX0_calls.data.toList.drop 95 = dktX0_calls_4 := dk_seg dksX0_calls_3 23 rfl rfl
theorem dksX0_calls_5 : cX0_calls.data.toList.drop 119 = dktX0_calls_5 := dk_seg dksX0_calls_4 24 rfl rfl
theorem dksX0_calls_6 : cX0_calls.data.toList.drop 143 = dktX0_calls_6 := dk_seg dksX0_calls_5 24 rfl rfl
theorem dX0_calls_0 : decode cX0_calls 0 = .ok (.iload_n 1, 1) := dk_27 (dk_at dksX0_calls_0 0 rfl rfl)
theorem dX0_calls_1 : decode cX0_calls 1 = .ok (.ifCond .ne 51, 3) := dk_154 0 51 (dk_at dksX0_calls_0 1 rfl rfl)
theorem dX0_calls_4 : decode cX0_calls 4 = .ok (.aload_n 0, 1) := dk_42 (dk_at dksX0_calls_0 4 rfl rfl)
theorem dX0_calls_5 : decode cX0_calls 5 = .ok (.getfield 50, 3) := dk_180 0 50 (dk_at dksX0_calls_0 5 rfl rfl)
theorem dX0_calls_8 : decode cX0_calls 8 = .ok (.iload_n 3, 1) := dk_29 (dk_at dksX0_calls_0 8 rfl rfl)
theorem dX0_calls_9 : decode cX0_calls 9 = .ok (.aaload, 1) := dk_50 (dk_at dksX0_calls_0 9 rfl rfl)
theorem dX0_calls_10 : decode cX0_calls 10 = .ok (.invokestatic 132, 3) := dk_184 0 132 (dk_at dksX0_calls_0 10 rfl rfl)
theorem dX0_calls_13 : decode cX0_calls 13 = .ok (.istore 4, 2) := dk_54 4 (dk_at dksX0_calls_0 13 rfl rfl)
theorem dX0_calls_15 : decode cX0_calls 15 = .ok (.iload 4, 2) := dk_21 4 (dk_at dksX0_calls_0 15 rfl rfl)
theorem dX0_calls_17 : decode cX0_calls 17 = .ok (.invokestatic 218, 3) := dk_184 0 218 (dk_at dksX0_calls_0 17 rfl rfl)
theorem dX0_calls_20 : decode cX0_calls 20 = .ok (.aload_n 0, 1) := dk_42 (dk_at dksX0_calls_0 20 rfl rfl)
theorem dX0_calls_21 : decode cX0_calls 21 = .ok (.getfield 221, 3) := dk_180 0 221 (dk_at dksX0_calls_0 21 rfl rfl)
theorem dX0_calls_24 : decode cX0_calls 24 = .ok (.invokestatic 218, 3) := dk_184 0 218 (dk_at dksX0_calls_1 0 rfl rfl)
theorem dX0_calls_27 : decode cX0_calls 27 = .ok (.if_icmp .lt 4, 3) := dk_161 0 4 (dk_at dksX0_calls_1 3 rfl rfl)
theorem dX0_calls_30 : decode cX0_calls 30 = .ok (.return_, 1) := dk_177 (dk_at dksX0_calls_1 6 rfl rfl)
theorem dX0_calls_31 : decode cX0_calls 31 = .ok (.aload_n 0, 1) := dk_42 (dk_at dksX0_calls_1 7 rfl rfl)
theorem dX0_calls_32 : decode cX0_calls 32 = .ok (.iload 4, 2) := dk_21 4 (dk_at dksX0_calls_1 8 rfl rfl)
theorem dX0_calls_34 : decode cX0_calls 34 = .ok (.putfield 221, 3) := dk_181 0 221 (dk_at dksX0_calls_1 10 rfl rfl)
theorem dX0_calls_37 : decode cX0_calls 37 = .ok (.aload_n 0, 1) := dk_42 (dk_at dksX0_calls_1 13 rfl rfl)
theorem dX0_calls_38 : decode cX0_calls 38 = .ok (.getfield 53, 3) := dk_180 0 53 (dk_at dksX0_calls_1 14 rfl rfl)
theorem dX0_calls_41 : decode cX0_calls 41 = .ok (.iconst 0, 1) := dk_3 (dk_at dksX0_calls_1 17 rfl rfl)
theorem dX0_calls_42 : decode cX0_calls 42 = .ok (.aload_n 0, 1) := dk_42 (dk_at dksX0_calls_1 18 rfl rfl)
theorem dX0_calls_43 : decode cX0_calls 43 = .ok (.getfield 57, 3) := dk_180 0 57 (dk_at dksX0_calls_1 19 rfl rfl)
theorem dX0_calls_46 : decode cX0_calls 46 = .ok (.iconst 0, 1) := dk_3 (dk_at dksX0_calls_1 22 rfl rfl)
theorem dX0_calls_47 : decode cX0_calls 47 = .ok (.iload_n 3, 1) := dk_29 (dk_at dksX0_calls_1 23 rfl rfl)
theorem dX0_calls_48 : decode cX0_calls 48 = .ok (.invokestatic 224, 3) := dk_184 0 224 (dk_at dksX0_calls_2 0 rfl rfl)
theorem dX0_calls_51 : decode cX0_calls 51 = .ok (.return_, 1) := dk_177 (dk_at dksX0_calls_2 3 rfl rfl)
theorem dX0_calls_52 : decode cX0_calls 52 = .ok (.iconst 0, 1) := dk_3 (dk_at dksX0_calls_2 4 rfl rfl)
theorem dX0_calls_53 : decode cX0_calls 53 = .ok (.istore 4, 2) := dk_54 4 (dk_at dksX0_calls_2 5 rfl rfl)
theorem dX0_calls_55 : decode cX0_calls 55 = .ok (.iload 4, 2) := dk_21 4 (dk_at dksX0_calls_2 7 rfl rfl)
theorem dX0_calls_57 : decode cX0_calls 57 = .ok (.aload_n 0, 1) := dk_42 (dk_at dksX0_calls_2 9 rfl rfl)
theorem dX0_calls_58 : decode cX0_calls 58 = .ok (.getfield 12, 3) := dk_180 0 12 (dk_at dksX0_calls_2 10 rfl rfl)
theorem dX0_calls_61 : decode cX0_calls 61 = .ok (.getfield 63, 3) := dk_180 0 63 (dk_at dksX0_calls_2 13 rfl rfl)
theorem dX0_calls_64 : decode cX0_calls 64 = .ok (.if_icmp .ge 82, 3) := dk_162 0 82 (dk_at dksX0_calls_2 16 rfl rfl)
theorem dX0_calls_67 : decode cX0_calls 67 = .ok (.iload_n 1, 1) := dk_27 (dk_at dksX0_calls_2 19 rfl rfl)
theorem dX0_calls_68 : decode cX0_calls 68 = .ok (.iload 4, 2) := dk_21 4 (dk_at dksX0_calls_2 20 rfl rfl)
theorem dX0_calls_70 : decode cX0_calls 70 = .ok (.ishr, 1) := dk_122 (dk_at dksX0_calls_2 22 rfl rfl)
theorem dX0_calls_71 : decode cX0_calls 71 = .ok (.iconst 1, 1) := dk_4 (dk_at dksX0_calls_2 23 rfl rfl)
theorem dX0_calls_72 : decode cX0_calls 72 = .ok (.iand, 1) := dk_126 (dk_at dksX0_calls_3 0 rfl rfl)
theorem dX0_calls_73 : decode cX0_calls 73 = .ok (.ifCond .ne 6, 3) := dk_154 0 6 (dk_at dksX0_calls_3 1 rfl rfl)
theorem dX0_calls_76 : decode cX0_calls 76 = .ok (.goto 64, 3) := dk_167 0 64 (dk_at dksX0_calls_3 4 rfl rfl)
theorem dX0_calls_79 : decode cX0_calls 79 = .ok (.aload_n 0, 1) := dk_42 (dk_at dksX0_calls_3 7 rfl rfl)
theorem dX0_calls_80 : decode cX0_calls 80 = .ok (.getfield 53, 3) := dk_180 0 53 (dk_at dksX0_calls_3 8 rfl rfl)
theorem dX0_calls_83 : decode cX0_calls 83 = .ok (.iload_n 3, 1) := dk_29 (dk_at dksX0_calls_3 11 rfl rfl)
theorem dX0_calls_84 : decode cX0_calls 84 = .ok (.iload 4, 2) := dk_21 4 (dk_at dksX0_calls_3 12 rfl rfl)
theorem dX0_calls_86 : decode cX0_calls 86 = .ok (.iastore, 1) := dk_79 (dk_at dksX0_calls_3 14 rfl rfl)
theorem dX0_calls_87 : decode cX0_calls 87 = .ok (.aload_n 0, 1) := dk_42 (dk_at dksX0_calls_3 15 rfl rfl)
theorem dX0_calls_88 : decode cX0_calls 88 = .ok (.getfield 50, 3) := dk_180 0 50 (dk_at dksX0_calls_3 16 rfl rfl)
theorem dX0_calls_91 : decode cX0_calls 91 = .ok (.iload_n 3, 1) := dk_29 (dk_at dksX0_calls_3 19 rfl rfl)
theorem dX0_calls_92 : decode cX0_calls 92 = .ok (.aaload, 1) := dk_50 (dk_at dksX0_calls_3 20 rfl rfl)
theorem dX0_calls_93 : decode cX0_calls 93 = .ok (.iconst 0, 1) := dk_3 (dk_at dksX0_calls_3 21 rfl rfl)
theorem dX0_calls_94 : decode cX0_calls 94 = .ok (.aload_n 0, 1) := dk_42 (dk_at dksX0_calls_3 22 rfl rfl)
theorem dX0_calls_95 : decode cX0_calls 95 = .ok (.getfield 50, 3) := dk_180 0 50 (dk_at dksX0_calls_4 0 rfl rfl)
theorem dX0_calls_98 : decode cX0_calls 98 = .ok (.iload_n 3, 1) := dk_29 (dk_at dksX0_calls_4 3 rfl rfl)
theorem dX0_calls_99 : decode cX0_calls 99 = .ok (.iconst 1, 1) := dk_4 (dk_at dksX0_calls_4 4 rfl rfl)
theorem dX0_calls_100 : decode cX0_calls 100 = .ok (.iadd, 1) := dk_96 (dk_at dksX0_calls_4 5 rfl rfl)
theorem dX0_calls_101 : decode cX0_calls 101 = .ok (.aaload, 1) := dk_50 (dk_at dksX0_calls_4 6 rfl rfl)
theorem dX0_calls_102 : decode cX0_calls 102 = .ok (.iconst 0, 1) := dk_3 (dk_at dksX0_calls_4 7 rfl rfl)
theorem dX0_calls_103 : decode cX0_calls 103 = .ok (.bipush 25, 2) := dk_16 25 (dk_at dksX0_calls_4 8 rfl rfl)
theorem dX0_calls_105 : decode cX0_calls 105 = .ok (.invokestatic 224, 3) := dk_184 0 224 (dk_at dksX0_calls_4 10 rfl rfl)
theorem dX0_calls_108 : decode cX0_calls 108 = .ok (.aload_n 0, 1) := dk_42 (dk_at dksX0_calls_4 13 rfl rfl)
theorem dX0_calls_109 : decode cX0_calls 109 = .ok (.aload_n 0, 1) := dk_42 (dk_at dksX0_calls_4 14 rfl rfl)
theorem dX0_calls_110 : decode cX0_calls 110 = .ok (.getfield 50, 3) := dk_180 0 50 (dk_at dksX0_calls_4 15 rfl rfl)
theorem dX0_calls_113 : decode cX0_calls 113 = .ok (.iload_n 3, 1) := dk_29 (dk_at dksX0_calls_4 18 rfl rfl)
theorem dX0_calls_114 : decode cX0_calls 114 = .ok (.iconst 1, 1) := dk_4 (dk_at dksX0_calls_4 19 rfl rfl)
theorem dX0_calls_115 : decode cX0_calls 115 = .ok (.iadd, 1) := dk_96 (dk_at dksX0_calls_4 20 rfl rfl)
theorem dX0_calls_116 : decode cX0_calls 116 = .ok (.aaload, 1) := dk_50 (dk_at dksX0_calls_4 21 rfl rfl)
theorem dX0_calls_117 : decode cX0_calls 117 = .ok (.iload 4, 2) := dk_21 4 (dk_at dksX0_calls_4 22 rfl rfl)
theorem dX0_calls_119 : decode cX0_calls 119 = .ok (.iload_n 2, 1) := dk_28 (dk_at dksX0_calls_5 0 rfl rfl)
theorem dX0_calls_120 : decode cX0_calls 120 = .ok (.invokevirtual 159, 3) := dk_182 0 159 (dk_at dksX0_calls_5 1 rfl rfl)
theorem dX0_calls_123 : decode cX0_calls 123 = .ok (.pop, 1) := dk_87 (dk_at dksX0_calls_5 4 rfl rfl)
theorem dX0_calls_124 : decode cX0_calls 124 = .ok (.aload_n 0, 1) := dk_42 (dk_at dksX0_calls_5 5 rfl rfl)
theorem dX0_calls_125 : decode cX0_calls 125 = .ok (.iload_n 1, 1) := dk_27 (dk_at dksX0_calls_5 6 rfl rfl)
theorem dX0_calls_126 : decode cX0_calls 126 = .ok (.iconst 1, 1) := dk_4 (dk_at dksX0_calls_5 7 rfl rfl)
theorem dX0_calls_127 : decode cX0_calls 127 = .ok (.iload 4, 2) := dk_21 4 (dk_at dksX0_calls_5 8 rfl rfl)
theorem dX0_calls_129 : decode cX0_calls 129 = .ok (.ishl, 1) := dk_120 (dk_at dksX0_calls_5 10 rfl rfl)
theorem dX0_calls_130 : decode cX0_calls 130 = .ok (.iconst (-1), 1) := dk_2 (dk_at dksX0_calls_5 11 rfl rfl)
theorem dX0_calls_131 : decode cX0_calls 131 = .ok (.ixor, 1) := dk_130 (dk_at dksX0_calls_5 12 rfl rfl)
theorem dX0_calls_132 : decode cX0_calls 132 = .ok (.iand, 1) := dk_126 (dk_at dksX0_calls_5 13 rfl rfl)
theorem dX0_calls_133 : decode cX0_calls 133 = .ok (.iload_n 2, 1) := dk_28 (dk_at dksX0_calls_5 14 rfl rfl)
theorem dX0_calls_134 : decode cX0_calls 134 = .ok (.iload_n 3, 1) := dk_29 (dk_at dksX0_calls_5 15 rfl rfl)
theorem dX0_calls_135 : decode cX0_calls 135 = .ok (.iconst 1, 1) := dk_4 (dk_at dksX0_calls_5 16 rfl rfl)
theorem dX0_calls_136 : decode cX0_calls 136 = .ok (.iadd, 1) := dk_96 (dk_at dksX0_calls_5 17 rfl rfl)
theorem dX0_calls_137 : decode cX0_calls 137 = .ok (.invokevirtual 230, 3) := dk_182 0 230 (dk_at dksX0_calls_5 18 rfl rfl)
theorem dX0_calls_140 : decode cX0_calls 140 = .ok (.iinc 4 1, 3) := dk_132 4 1 (dk_at dksX0_calls_5 21 rfl rfl)
theorem dX0_calls_143 : decode cX0_calls 143 = .ok (.goto (-88), 3) := dk_167 255 168 (dk_at dksX0_calls_6 0 rfl rfl)
theorem dX0_calls_146 : decode cX0_calls 146 = .ok (.return_, 1) := dk_177 (dk_at dksX0_calls_6 3 rfl rfl)
abbrev cX0_acquitted : ByteArray := prog_1_method_36_code
def yX0_acquitted : MethodName := ⟨RX0, "acquitted", "(II)I"⟩
def dkwX0_acquitted_4 : List UInt8 := [162, 0, 12, 42, 180, 0, 57, 28, 46, 167, 0, 5, 16, 253, 172, 132, 3, 1, 167, 255, 189, 16, 253, 172]
abbrev dktX0_acquitted_4 : List UInt8 := dkwX0_acquitted_4 ++ []
def dkwX0_acquitted_3 : List UInt8 := [2, 160, 0, 7, 29, 167, 0, 32, 28, 16, 254, 160, 0, 10, 42, 180, 0, 243, 167, 0, 19, 28, 29]
abbrev dktX0_acquitted_3 : List UInt8 := dkwX0_acquitted_3 ++ dktX0_acquitted_4
def dkwX0_acquitted_2 : List UInt8 := [163, 0, 68, 42, 27, 29, 3, 3, 182, 0, 246, 42, 180, 0, 243, 18, 242, 160, 0, 6, 167, 0, 42, 28]
abbrev dktX0_acquitted_2 : List UInt8 := dkwX0_acquitted_2 ++ dktX0_acquitted_3
def dkwX0_acquitted_1 : List UInt8 := [42, 180, 0, 50, 3, 50, 3, 16, 25, 184, 0, 224, 42, 18, 242, 181, 0, 243, 3, 62, 29, 7]
abbrev dktX0_acquitted_1 : List UInt8 := dkwX0_acquitted_1 ++ dktX0_acquitted_2
def dkwX0_acquitted_0 : List UInt8 := [27, 184, 0, 70, 153, 0, 9, 28, 16, 254, 162, 0, 6, 16, 253, 172, 42, 180, 0, 12, 180, 0, 77, 3]
abbrev dktX0_acquitted_0 : List UInt8 := dkwX0_acquitted_0 ++ dktX0_acquitted_1
theorem dksX0_acquitted_0 : cX0_acquitted.data.toList.drop 0 = dktX0_acquitted_0 := by decide +kernel
theorem dksX0_acquitted_1 : cX0_acquitted.data.toList.drop 24 = dktX0_acquitted_1 := dk_seg dksX0_acquitted_0 24 rfl rfl
theorem dksX0_acquitted_2 : cX0_acquitted.data.toList.drop 46 = dktX0_acquitted_2 := dk_seg dksX0_acquitted_1 22 rfl rfl
theorem dksX0_acquitted_3 : cX0_acquitted.data.toList.drop 70 = dktX0_acquitted_3 := dk_seg dksX0_acquitted_2 24 rfl rfl
theorem dksX0_acquitted_4 : cX0_acquitted.data.toList.drop 93 = dktX0_acquitted_4 := dk_seg dksX0_acquitted_3 23 rfl rfl
theorem dX0_acquitted_0 : decode cX0_acquitted 0 = .ok (.iload_n 1, 1) := dk_27 (dk_at dksX0_acquitted_0 0 rfl rfl)
theorem dX0_acquitted_1 : decode cX0_acquitted 1 = .ok (.invokestatic 70, 3) := dk_184 0 70 (dk_at dksX0_acquitted_0 1 rfl rfl)
theorem dX0_acquitted_4 : decode cX0_acquitted 4 = .ok (.ifCond .eq 9, 3) := dk_153 0 9 (dk_at dksX0_acquitted_0 4 rfl rfl)
theorem dX0_acquitted_7 : decode cX0_acquitted 7 = .ok (.iload_n 2, 1) := dk_28 (dk_at dksX0_acquitted_0 7 rfl rfl)
theorem dX0_acquitted_8 : decode cX0_acquitted 8 = .ok (.bipush (-2), 2) := dk_16 254 (dk_at dksX0_acquitted_0 8 rfl rfl)
theorem dX0_acquitted_10 : decode cX0_acquitted 10 = .ok (.if_icmp .ge 6, 3) := dk_162 0 6 (dk_at dksX0_acquitted_0 10 rfl rfl)
theorem dX0_acquitted_13 : decode cX0_acquitted 13 = .ok (.bipush (-3), 2) := dk_16 253 (dk_at dksX0_acquitted_0 13 rfl rfl)
theorem dX0_acquitted_15 : decode cX0_acquitted 15 = .ok (.ireturn, 1) := dk_172 (dk_at dksX0_acquitted_0 15 rfl rfl)
theorem dX0_acquitted_16 : decode cX0_acquitted 16 = .ok (.aload_n 0, 1) := dk_42 (dk_at dksX0_acquitted_0 16 rfl rfl)
theorem dX0_acquitted_17 : decode cX0_acquitted 17 = .ok (.getfield 12, 3) := dk_180 0 12 (dk_at dksX0_acquitted_0 17 rfl rfl)
theorem dX0_acquitted_20 : decode cX0_acquitted 20 = .ok (.getfield 77, 3) := dk_180 0 77 (dk_at dksX0_acquitted_0 20 rfl rfl)
theorem dX0_acquitted_23 : decode cX0_acquitted 23 = .ok (.iconst 0, 1) := dk_3 (dk_at dksX0_acquitted_0 23 rfl rfl)
theorem dX0_acquitted_24 : decode cX0_acquitted 24 = .ok (.aload_n 0, 1) := dk_42 (dk_at dksX0_acquitted_1 0 rfl rfl)
theorem dX0_acquitted_25 : decode cX0_acquitted 25 = .ok (.getfield 50, 3) := dk_180 0 50 (dk_at dksX0_acquitted_1 1 rfl rfl)
theorem dX0_acquitted_28 : decode cX0_acquitted 28 = .ok (.iconst 0, 1) := dk_3 (dk_at dksX0_acquitted_1 4 rfl rfl)
theorem dX0_acquitted_29 : decode cX0_acquitted 29 = .ok (.aaload, 1) := dk_50 (dk_at dksX0_acquitted_1 5 rfl rfl)
theorem dX0_acquitted_30 : decode cX0_acquitted 30 = .ok (.iconst 0, 1) := dk_3 (dk_at dksX0_acquitted_1 6 rfl rfl)
theorem dX0_acquitted_31 : decode cX0_acquitted 31 = .ok (.bipush 25, 2) := dk_16 25 (dk_at dksX0_acquitted_1 7 rfl rfl)
theorem dX0_acquitted_33 : decode cX0_acquitted 33 = .ok (.invokestatic 224, 3) := dk_184 0 224 (dk_at dksX0_acquitted_1 9 rfl rfl)
theorem dX0_acquitted_36 : decode cX0_acquitted 36 = .ok (.aload_n 0, 1) := dk_42 (dk_at dksX0_acquitted_1 12 rfl rfl)
theorem dX0_acquitted_37 : decode cX0_acquitted 37 = .ok (.ldc 242, 2) := dk_18 242 (dk_at dksX0_acquitted_1 13 rfl rfl)
theorem dX0_acquitted_39 : decode cX0_acquitted 39 = .ok (.putfield 243, 3) := dk_181 0 243 (dk_at dksX0_acquitted_1 15 rfl rfl)
theorem dX0_acquitted_42 : decode cX0_acquitted 42 = .ok (.iconst 0, 1) := dk_3 (dk_at dksX0_acquitted_1 18 rfl rfl)
theorem dX0_acquitted_43 : decode cX0_acquitted 43 = .ok (.istore_n 3, 1) := dk_62 (dk_at dksX0_acquitted_1 19 rfl rfl)
theorem dX0_acquitted_44 : decode cX0_acquitted 44 = .ok (.iload_n 3, 1) := dk_29 (dk_at dksX0_acquitted_1 20 rfl rfl)
theorem dX0_acquitted_45 : decode cX0_acquitted 45 = .ok (.iconst 4, 1) := dk_7 (dk_at dksX0_acquitted_1 21 rfl rfl)
theorem dX0_acquitted_46 : decode cX0_acquitted 46 = .ok (.if_icmp .gt 68, 3) := dk_163 0 68 (dk_at dksX0_acquitted_2 0 rfl rfl)
theorem dX0_acquitted_49 : decode cX0_acquitted 49 = .ok (.aload_n 0, 1) := dk_42 (dk_at dksX0_acquitted_2 3 rfl rfl)
theorem dX0_acquitted_50 : decode cX0_acquitted 50 = .ok (.iload_n 1, 1) := dk_27 (dk_at dksX0_acquitted_2 4 rfl rfl)
theorem dX0_acquitted_51 : decode cX0_acquitted 51 = .ok (.iload_n 3, 1) := dk_29 (dk_at dksX0_acquitted_2 5 rfl rfl)
theorem dX0_acquitted_52 : decode cX0_acquitted 52 = .ok (.iconst 0, 1) := dk_3 (dk_at dksX0_acquitted_2 6 rfl rfl)
theorem dX0_acquitted_53 : decode cX0_acquitted 53 = .ok (.iconst 0, 1) := dk_3 (dk_at dksX0_acquitted_2 7 rfl rfl)
theorem dX0_acquitted_54 : decode cX0_acquitted 54 = .ok (.invokevirtual 246, 3) := dk_182 0 246 (dk_at dksX0_acquitted_2 8 rfl rfl)
theorem dX0_acquitted_57 : decode cX0_acquitted 57 = .ok (.aload_n 0, 1) := dk_42 (dk_at dksX0_acquitted_2 11 rfl rfl)
theorem dX0_acquitted_58 : decode cX0_acquitted 58 = .ok (.getfield 243, 3) := dk_180 0 243 (dk_at dksX0_acquitted_2 12 rfl rfl)
theorem dX0_acquitted_61 : decode cX0_acquitted 61 = .ok (.ldc 242, 2) := dk_18 242 (dk_at dksX0_acquitted_2 15 rfl rfl)
theorem dX0_acquitted_63 : decode cX0_acquitted 63 = .ok (.if_icmp .ne 6, 3) := dk_160 0 6 (dk_at dksX0_acquitted_2 17 rfl rfl)
theorem dX0_acquitted_66 : decode cX0_acquitted 66 = .ok (.goto 42, 3) := dk_167 0 42 (dk_at dksX0_acquitted_2 20 rfl rfl)
theorem dX0_acquitted_69 : decode cX0_acquitted 69 = .ok (.iload_n 2, 1) := dk_28 (dk_at dksX0_acquitted_2 23 rfl rfl)
theorem dX0_acquitted_70 : decode cX0_acquitted 70 = .ok (.iconst (-1), 1) := dk_2 (dk_at dksX0_acquitted_3 0 rfl rfl)
theorem dX0_acquitted_71 : decode cX0_acquitted 71 = .ok (.if_icmp .ne 7, 3) := dk_160 0 7 (dk_at dksX0_acquitted_3 1 rfl rfl)
theorem dX0_acquitted_74 : decode cX0_acquitted 74 = .ok (.iload_n 3, 1) := dk_29 (dk_at dksX0_acquitted_3 4 rfl rfl)
theorem dX0_acquitted_75 : decode cX0_acquitted 75 = .ok (.goto 32, 3) := dk_167 0 32 (dk_at dksX0_acquitted_3 5 rfl rfl)
theorem dX0_acquitted_78 : decode cX0_acquitted 78 = .ok (.iload_n 2, 1) := dk_28 (dk_at dksX0_acquitted_3 8 rfl rfl)
theorem dX0_acquitted_79 : decode cX0_acquitted 79 = .ok (.bipush (-2), 2) := dk_16 254 (dk_at dksX0_acquitted_3 9 rfl rfl)
theorem dX0_acquitted_81 : decode cX0_acquitted 81 = .ok (.if_icmp .ne 10, 3) := dk_160 0 10 (dk_at dksX0_acquitted_3 11 rfl rfl)
theorem dX0_acquitted_84 : decode cX0_acquitted 84 = .ok (.aload_n 0, 1) := dk_42 (dk_at dksX0_acquitted_3 14 rfl rfl)
theorem dX0_acquitted_85 : decode cX0_acquitted 85 = .ok (.getfield 243, 3) := dk_180 0 243 (dk_at dksX0_acquitted_3 15 rfl rfl)
theorem dX0_acquitted_88 : decode cX0_acquitted 88 = .ok (.goto 19, 3) := dk_167 0 19 (dk_at dksX0_acquitted_3 18 rfl rfl)
theorem dX0_acquitted_91 : decode cX0_acquitted 91 = .ok (.iload_n 2, 1) := dk_28 (dk_at dksX0_acquitted_3 21 rfl rfl)
theorem dX0_acquitted_92 : decode cX0_acquitted 92 = .ok (.iload_n 3, 1) := dk_29 (dk_at dksX0_acquitted_3 22 rfl rfl)
theorem dX0_acquitted_93 : decode cX0_acquitted 93 = .ok (.if_icmp .ge 12, 3) := dk_162 0 12 (dk_at dksX0_acquitted_4 0 rfl rfl)
theorem dX0_acquitted_96 : decode cX0_acquitted 96 = .ok (.aload_n 0, 1) := dk_42 (dk_at dksX0_acquitted_4 3 rfl rfl)
theorem dX0_acquitted_97 : decode cX0_acquitted 97 = .ok (.getfield 57, 3) := dk_180 0 57 (dk_at dksX0_acquitted_4 4 rfl rfl)
theorem dX0_acquitted_100 : decode cX0_acquitted 100 = .ok (.iload_n 2, 1) := dk_28 (dk_at dksX0_acquitted_4 7 rfl rfl)
theorem dX0_acquitted_101 : decode cX0_acquitted 101 = .ok (.iaload, 1) := dk_46 (dk_at dksX0_acquitted_4 8 rfl rfl)
theorem dX0_acquitted_102 : decode cX0_acquitted 102 = .ok (.goto 5, 3) := dk_167 0 5 (dk_at dksX0_acquitted_4 9 rfl rfl)
theorem dX0_acquitted_105 : decode cX0_acquitted 105 = .ok (.bipush (-3), 2) := dk_16 253 (dk_at dksX0_acquitted_4 12 rfl rfl)
theorem dX0_acquitted_107 : decode cX0_acquitted 107 = .ok (.ireturn, 1) := dk_172 (dk_at dksX0_acquitted_4 14 rfl rfl)
theorem dX0_acquitted_108 : decode cX0_acquitted 108 = .ok (.iinc 3 1, 3) := dk_132 3 1 (dk_at dksX0_acquitted_4 15 rfl rfl)
theorem dX0_acquitted_111 : decode cX0_acquitted 111 = .ok (.goto (-67), 3) := dk_167 255 189 (dk_at dksX0_acquitted_4 18 rfl rfl)
theorem dX0_acquitted_114 : decode cX0_acquitted 114 = .ok (.bipush (-3), 2) := dk_16 253 (dk_at dksX0_acquitted_4 21 rfl rfl)
theorem dX0_acquitted_116 : decode cX0_acquitted 116 = .ok (.ireturn, 1) := dk_172 (dk_at dksX0_acquitted_4 23 rfl rfl)
abbrev cX0_acquits : ByteArray := prog_1_method_35_code
def yX0_acquits : MethodName := ⟨RX0, "acquits", "(IIII)V"⟩
def dkwX0_acquits_7 : List UInt8 := [132, 5, 1, 167, 255, 141, 177]
abbrev dktX0_acquits_7 : List UInt8 := dkwX0_acquits_7 ++ []
def dkwX0_acquits_6 : List UInt8 := [21, 4, 21, 6, 154, 0, 8, 21, 7, 167, 0, 4, 3, 96, 182, 0, 246, 132, 6, 1, 167, 255, 162]
abbrev dktX0_acquits_6 : List UInt8 := dkwX0_acquits_6 ++ dktX0_acquits_7
def dkwX0_acquits_5 : List UInt8 := [167, 0, 41, 42, 180, 0, 53, 29, 5, 21, 5, 104, 21, 6, 96, 79, 42, 27, 28, 4, 100, 29, 4, 96]
abbrev dktX0_acquits_5 : List UInt8 := dkwX0_acquits_5 ++ dktX0_acquits_6
def dkwX0_acquits_4 : List UInt8 := [42, 42, 180, 0, 50, 29, 4, 96, 50, 21, 5, 21, 6, 182, 0, 159, 54, 7, 21, 7, 154, 0, 6]
abbrev dktX0_acquits_4 : List UInt8 := dkwX0_acquits_4 ++ dktX0_acquits_5
def dkwX0_acquits_3 : List UInt8 := [162, 0, 94, 42, 180, 0, 50, 29, 50, 3, 42, 180, 0, 50, 29, 4, 96, 50, 3, 16, 25, 184, 0, 224]
abbrev dktX0_acquits_3 : List UInt8 := dkwX0_acquits_3 ++ dktX0_acquits_4
def dkwX0_acquits_2 : List UInt8 := [177, 3, 54, 5, 21, 5, 42, 180, 0, 12, 180, 0, 63, 162, 0, 109, 3, 54, 6, 21, 6, 5]
abbrev dktX0_acquits_2 : List UInt8 := dkwX0_acquits_2 ++ dktX0_acquits_3
def dkwX0_acquits_1 : List UInt8 := [153, 0, 4, 177, 42, 21, 4, 181, 0, 243, 42, 180, 0, 53, 3, 42, 180, 0, 57, 3, 29, 184, 0, 224]
abbrev dktX0_acquits_1 : List UInt8 := dkwX0_acquits_1 ++ dktX0_acquits_2
def dkwX0_acquits_0 : List UInt8 := [28, 154, 0, 48, 21, 4, 42, 180, 0, 243, 162, 0, 17, 42, 42, 180, 0, 50, 29, 50, 27, 182, 0, 162]
abbrev dktX0_acquits_0 : List UInt8 := dkwX0_acquits_0 ++ dktX0_acquits_1
theorem dksX0_acquits_0 : cX0_acquits.data.toList.drop 0 = dktX0_acquits_0 := by decide +kernel
theorem dksX0_acquits_1 : cX0_acquits.data.toList.drop 24 = dktX0_acquits_1 := dk_seg dksX0_acquits_0 24 rfl rfl
theorem dksX0_acquits_2 : cX0_acquits.data.toList.drop 48 = dktX0_acquits_2 := dk_seg dksX0_acquits_1 24 rfl rfl
theorem dksX0_acquits_3 : cX0_acquits.data.toList.drop 70 = dktX0_acquits_3 := dk_seg dksX0_acquits_2 22 rfl rfl
theorem dksX0_acquits_4 : cX0_acquits.data.toList.drop 94 = dktX0_acquits_4 := dk_seg dksX0_acquits_3 24 rfl rfl
theorem dksX0_acquits_5 : cX0_acquits.data.toList.drop 117 = dktX0_acquits_5 := dk_seg dksX0_acquits_4 23 rfl rfl
theorem dksX0_acquits_6 : cX0_acquits.data.toList.drop 141 = dktX0_acquits_6 := dk_seg dksX0_acquits_5 24 rfl rfl
theorem dksX0_acquits_7 : cX0_acquits.data.toList.drop 164 = dktX0_acquits_7 := dk_seg dksX0_acquits_6 23 rfl rfl
theorem dX0_acquits_0 : decode cX0_acquits 0 = .ok (.iload_n 2, 1) := dk_28 (dk_at dksX0_acquits_0 0 rfl rfl)
theorem dX0_acquits_1 : decode cX0_acquits 1 = .ok (.ifCond .ne 48, 3) := dk_154 0 48 (dk_at dksX0_acquits_0 1 rfl rfl)
theorem dX0_acquits_4 : decode cX0_acquits 4 = .ok (.iload 4, 2) := dk_21 4 (dk_at dksX0_acquits_0 4 rfl rfl)
theorem dX0_acquits_6 : decode cX0_acquits 6 = .ok (.aload_n 0, 1) := dk_42 (dk_at dksX0_acquits_0 6 rfl rfl)
theorem dX0_acquits_7 : decode cX0_acquits 7 = .ok (.getfield 243, 3) := dk_180 0 243 (dk_at dksX0_acquits_0 7 rfl rfl)
theorem dX0_acquits_10 : decode cX0_acquits 10 = .ok (.if_icmp .ge 17, 3) := dk_162 0 17 (dk_at dksX0_acquits_0 10 rfl rfl)
theorem dX0_acquits_13 : decode cX0_acquits 13 = .ok (.aload_n 0, 1) := dk_42 (dk_at dksX0_acquits_0 13 rfl rfl)
theorem dX0_acquits_14 : decode cX0_acquits 14 = .ok (.aload_n 0, 1) := dk_42 (dk_at dksX0_acquits_0 14 rfl rfl)
theorem dX0_acquits_15 : decode cX0_acquits 15 = .ok (.getfield 50, 3) := dk_180 0 50 (dk_at dksX0_acquits_0 15 rfl rfl)
theorem dX0_acquits_18 : decode cX0_acquits 18 = .ok (.iload_n 3, 1) := dk_29 (dk_at dksX0_acquits_0 18 rfl rfl)
theorem dX0_acquits_19 : decode cX0_acquits 19 = .ok (.aaload, 1) := dk_50 (dk_at dksX0_acquits_0 19 rfl rfl)
theorem dX0_acquits_20 : decode cX0_acquits 20 = .ok (.iload_n 1, 1) := dk_27 (dk_at dksX0_acquits_0 20 rfl rfl)
theorem dX0_acquits_21 : decode cX0_acquits 21 = .ok (.invokevirtual 162, 3) := dk_182 0 162 (dk_at dksX0_acquits_0 21 rfl rfl)
theorem dX0_acquits_24 : decode cX0_acquits 24 = .ok (.ifCond .eq 4, 3) := dk_153 0 4 (dk_at dksX0_acquits_1 0 rfl rfl)
theorem dX0_acquits_27 : decode cX0_acquits 27 = .ok (.return_, 1) := dk_177 (dk_at dksX0_acquits_1 3 rfl rfl)
theorem dX0_acquits_28 : decode cX0_acquits 28 = .ok (.aload_n 0, 1) := dk_42 (dk_at dksX0_acquits_1 4 rfl rfl)
theorem dX0_acquits_29 : decode cX0_acquits 29 = .ok (.iload 4, 2) := dk_21 4 (dk_at dksX0_acquits_1 5 rfl rfl)
theorem dX0_acquits_31 : decode cX0_acquits 31 = .ok (.putfield 243, 3) := dk_181 0 243 (dk_at dksX0_acquits_1 7 rfl rfl)
theorem dX0_acquits_34 : decode cX0_acquits 34 = .ok (.aload_n 0, 1) := dk_42 (dk_at dksX0_acquits_1 10 rfl rfl)
theorem dX0_acquits_35 : decode cX0_acquits 35 = .ok (.getfield 53, 3) := dk_180 0 53 (dk_at dksX0_acquits_1 11 rfl rfl)
theorem dX0_acquits_38 : decode cX0_acquits 38 = .ok (.iconst 0, 1) := dk_3 (dk_at dksX0_acquits_1 14 rfl rfl)
theorem dX0_acquits_39 : decode cX0_acquits 39 = .ok (.aload_n 0, 1) := dk_42 (dk_at dksX0_acquits_1 15 rfl rfl)
theorem dX0_acquits_40 : decode cX0_acquits 40 = .ok (.getfield 57, 3) := dk_180 0 57 (dk_at dksX0_acquits_1 16 rfl rfl)
theorem dX0_acquits_43 : decode cX0_acquits 43 = .ok (.iconst 0, 1) := dk_3 (dk_at dksX0_acquits_1 19 rfl rfl)
theorem dX0_acquits_44 : decode cX0_acquits 44 = .ok (.iload_n 3, 1) := dk_29 (dk_at dksX0_acquits_1 20 rfl rfl)
theorem dX0_acquits_45 : decode cX0_acquits 45 = .ok (.invokestatic 224, 3) := dk_184 0 224 (dk_at dksX0_acquits_1 21 rfl rfl)
theorem dX0_acquits_48 : decode cX0_acquits 48 = .ok (.return_, 1) := dk_177 (dk_at dksX0_acquits_2 0 rfl rfl)
theorem dX0_acquits_49 : decode cX0_acquits 49 = .ok (.iconst 0, 1) := dk_3 (dk_at dksX0_acquits_2 1 rfl rfl)
theorem dX0_acquits_50 : decode cX0_acquits 50 = .ok (.istore 5, 2) := dk_54 5 (dk_at dksX0_acquits_2 2 rfl rfl)
theorem dX0_acquits_52 : decode cX0_acquits 52 = .ok (.iload 5, 2) := dk_21 5 (dk_at dksX0_acquits_2 4 rfl rfl)
theorem dX0_acquits_54 : decode cX0_acquits 54 = .ok (.aload_n 0, 1) := dk_42 (dk_at dksX0_acquits_2 6 rfl rfl)
theorem dX0_acquits_55 : decode cX0_acquits 55 = .ok (.getfield 12, 3) := dk_180 0 12 (dk_at dksX0_acquits_2 7 rfl rfl)
theorem dX0_acquits_58 : decode cX0_acquits 58 = .ok (.getfield 63, 3) := dk_180 0 63 (dk_at dksX0_acquits_2 10 rfl rfl)
theorem dX0_acquits_61 : decode cX0_acquits 61 = .ok (.if_icmp .ge 109, 3) := dk_162 0 109 (dk_at dksX0_acquits_2 13 rfl rfl)
theorem dX0_acquits_64 : decode cX0_acquits 64 = .ok (.iconst 0, 1) := dk_3 (dk_at dksX0_acquits_2 16 rfl rfl)
theorem dX0_acquits_65 : decode cX0_acquits 65 = .ok (.istore 6, 2) := dk_54 6 (dk_at dksX0_acquits_2 17 rfl rfl)
theorem dX0_acquits_67 : decode cX0_acquits 67 = .ok (.iload 6, 2) := dk_21 6 (dk_at dksX0_acquits_2 19 rfl rfl)
theorem dX0_acquits_69 : decode cX0_acquits 69 = .ok (.iconst 2, 1) := dk_5 (dk_at dksX0_acquits_2 21 rfl rfl)
theorem dX0_acquits_70 : decode cX0_acquits 70 = .ok (.if_icmp .ge 94, 3) := dk_162 0 94 (dk_at dksX0_acquits_3 0 rfl rfl)
theorem dX0_acquits_73 : decode cX0_acquits 73 = .ok (.aload_n 0, 1) := dk_42 (dk_at dksX0_acquits_3 3 rfl rfl)
theorem dX0_acquits_74 : decode cX0_acquits 74 = .ok (.getfield 50, 3) := dk_180 0 50 (dk_at dksX0_acquits_3 4 rfl rfl)
theorem dX0_acquits_77 : decode cX0_acquits 77 = .ok (.iload_n 3, 1) := dk_29 (dk_at dksX0_acquits_3 7 rfl rfl)
theorem dX0_acquits_78 : decode cX0_acquits 78 = .ok (.aaload, 1) := dk_50 (dk_at dksX0_acquits_3 8 rfl rfl)
theorem dX0_acquits_79 : decode cX0_acquits 79 = .ok (.iconst 0, 1) := dk_3 (dk_at dksX0_acquits_3 9 rfl rfl)
theorem dX0_acquits_80 : decode cX0_acquits 80 = .ok (.aload_n 0, 1) := dk_42 (dk_at dksX0_acquits_3 10 rfl rfl)
theorem dX0_acquits_81 : decode cX0_acquits 81 = .ok (.getfield 50, 3) := dk_180 0 50 (dk_at dksX0_acquits_3 11 rfl rfl)
theorem dX0_acquits_84 : decode cX0_acquits 84 = .ok (.iload_n 3, 1) := dk_29 (dk_at dksX0_acquits_3 14 rfl rfl)
theorem dX0_acquits_85 : decode cX0_acquits 85 = .ok (.iconst 1, 1) := dk_4 (dk_at dksX0_acquits_3 15 rfl rfl)
theorem dX0_acquits_86 : decode cX0_acquits 86 = .ok (.iadd, 1) := dk_96 (dk_at dksX0_acquits_3 16 rfl rfl)
theorem dX0_acquits_87 : decode cX0_acquits 87 = .ok (.aaload, 1) := dk_50 (dk_at dksX0_acquits_3 17 rfl rfl)
theorem dX0_acquits_88 : decode cX0_acquits 88 = .ok (.iconst 0, 1) := dk_3 (dk_at dksX0_acquits_3 18 rfl rfl)
theorem dX0_acquits_89 : decode cX0_acquits 89 = .ok (.bipush 25, 2) := dk_16 25 (dk_at dksX0_acquits_3 19 rfl rfl)
theorem dX0_acquits_91 : decode cX0_acquits 91 = .ok (.invokestatic 224, 3) := dk_184 0 224 (dk_at dksX0_acquits_3 21 rfl rfl)
theorem dX0_acquits_94 : decode cX0_acquits 94 = .ok (.aload_n 0, 1) := dk_42 (dk_at dksX0_acquits_4 0 rfl rfl)
theorem dX0_acquits_95 : decode cX0_acquits 95 = .ok (.aload_n 0, 1) := dk_42 (dk_at dksX0_acquits_4 1 rfl rfl)
theorem dX0_acquits_96 : decode cX0_acquits 96 = .ok (.getfield 50, 3) := dk_180 0 50 (dk_at dksX0_acquits_4 2 rfl rfl)
theorem dX0_acquits_99 : decode cX0_acquits 99 = .ok (.iload_n 3, 1) := dk_29 (dk_at dksX0_acquits_4 5 rfl rfl)
theorem dX0_acquits_100 : decode cX0_acquits 100 = .ok (.iconst 1, 1) := dk_4 (dk_at dksX0_acquits_4 6 rfl rfl)
theorem dX0_acquits_101 : decode cX0_acquits 101 = .ok (.iadd, 1) := dk_96 (dk_at dksX0_acquits_4 7 rfl rfl)
theorem dX0_acquits_102 : decode cX0_acquits 102 = .ok (.aaload, 1) := dk_50 (dk_at dksX0_acquits_4 8 rfl rfl)
theorem dX0_acquits_103 : decode cX0_acquits 103 = .ok (.iload 5, 2) := dk_21 5 (dk_at dksX0_acquits_4 9 rfl rfl)
theorem dX0_acquits_105 : decode cX0_acquits 105 = .ok (.iload 6, 2) := dk_21 6 (dk_at dksX0_acquits_4 11 rfl rfl)
theorem dX0_acquits_107 : decode cX0_acquits 107 = .ok (.invokevirtual 159, 3) := dk_182 0 159 (dk_at dksX0_acquits_4 13 rfl rfl)
theorem dX0_acquits_110 : decode cX0_acquits 110 = .ok (.istore 7, 2) := dk_54 7 (dk_at dksX0_acquits_4 16 rfl rfl)
theorem dX0_acquits_112 : decode cX0_acquits 112 = .ok (.iload 7, 2) := dk_21 7 (dk_at dksX0_acquits_4 18 rfl rfl)
theorem dX0_acquits_114 : decode cX0_acquits 114 = .ok (.ifCond .ne 6, 3) := dk_154 0 6 (dk_at dksX0_acquits_4 20 rfl rfl)
theorem dX0_acquits_117 : decode cX0_acquits 117 = .ok (.goto 41, 3) := dk_167 0 41 (dk_at dksX0_acquits_5 0 rfl rfl)
theorem dX0_acquits_120 : decode cX0_acquits 120 = .ok (.aload_n 0, 1) := dk_42 (dk_at dksX0_acquits_5 3 rfl rfl)
theorem dX0_acquits_121 : decode cX0_acquits 121 = .ok (.getfield 53, 3) := dk_180 0 53 (dk_at dksX0_acquits_5 4 rfl rfl)
theorem dX0_acquits_124 : decode cX0_acquits 124 = .ok (.iload_n 3, 1) := dk_29 (dk_at dksX0_acquits_5 7 rfl rfl)
theorem dX0_acquits_125 : decode cX0_acquits 125 = .ok (.iconst 2, 1) := dk_5 (dk_at dksX0_acquits_5 8 rfl rfl)
theorem dX0_acquits_126 : decode cX0_acquits 126 = .ok (.iload 5, 2) := dk_21 5 (dk_at dksX0_acquits_5 9 rfl rfl)
theorem dX0_acquits_128 : decode cX0_acquits 128 = .ok (.imul, 1) := dk_104 (dk_at dksX0_acquits_5 11 rfl rfl)
theorem dX0_acquits_129 : decode cX0_acquits 129 = .ok (.iload 6, 2) := dk_21 6 (dk_at dksX0_acquits_5 12 rfl rfl)
theorem dX0_acquits_131 : decode cX0_acquits 131 = .ok (.iadd, 1) := dk_96 (dk_at dksX0_acquits_5 14 rfl rfl)
theorem dX0_acquits_132 : decode cX0_acquits 132 = .ok (.iastore, 1) := dk_79 (dk_at dksX0_acquits_5 15 rfl rfl)
theorem dX0_acquits_133 : decode cX0_acquits 133 = .ok (.aload_n 0, 1) := dk_42 (dk_at dksX0_acquits_5 16 rfl rfl)
theorem dX0_acquits_134 : decode cX0_acquits 134 = .ok (.iload_n 1, 1) := dk_27 (dk_at dksX0_acquits_5 17 rfl rfl)
theorem dX0_acquits_135 : decode cX0_acquits 135 = .ok (.iload_n 2, 1) := dk_28 (dk_at dksX0_acquits_5 18 rfl rfl)
theorem dX0_acquits_136 : decode cX0_acquits 136 = .ok (.iconst 1, 1) := dk_4 (dk_at dksX0_acquits_5 19 rfl rfl)
theorem dX0_acquits_137 : decode cX0_acquits 137 = .ok (.isub, 1) := dk_100 (dk_at dksX0_acquits_5 20 rfl rfl)
theorem dX0_acquits_138 : decode cX0_acquits 138 = .ok (.iload_n 3, 1) := dk_29 (dk_at dksX0_acquits_5 21 rfl rfl)
theorem dX0_acquits_139 : decode cX0_acquits 139 = .ok (.iconst 1, 1) := dk_4 (dk_at dksX0_acquits_5 22 rfl rfl)
theorem dX0_acquits_140 : decode cX0_acquits 140 = .ok (.iadd, 1) := dk_96 (dk_at dksX0_acquits_5 23 rfl rfl)
theorem dX0_acquits_141 : decode cX0_acquits 141 = .ok (.iload 4, 2) := dk_21 4 (dk_at dksX0_acquits_6 0 rfl rfl)
theorem dX0_acquits_143 : decode cX0_acquits 143 = .ok (.iload 6, 2) := dk_21 6 (dk_at dksX0_acquits_6 2 rfl rfl)
theorem dX0_acquits_145 : decode cX0_acquits 145 = .ok (.ifCond .ne 8, 3) := dk_154 0 8 (dk_at dksX0_acquits_6 4 rfl rfl)
theorem dX0_acquits_148 : decode cX0_acquits 148 = .ok (.iload 7, 2) := dk_21 7 (dk_at dksX0_acquits_6 7 rfl rfl)
theorem dX0_acquits_150 : decode cX0_acquits 150 = .ok (.goto 4, 3) := dk_167 0 4 (dk_at dksX0_acquits_6 9 rfl rfl)
theorem dX0_acquits_153 : decode cX0_acquits 153 = .ok (.iconst 0, 1) := dk_3 (dk_at dksX0_acquits_6 12 rfl rfl)
theorem dX0_acquits_154 : decode cX0_acquits 154 = .ok (.iadd, 1) := dk_96 (dk_at dksX0_acquits_6 13 rfl rfl)
theorem dX0_acquits_155 : decode cX0_acquits 155 = .ok (.invokevirtual 246, 3) := dk_182 0 246 (dk_at dksX0_acquits_6 14 rfl rfl)
theorem dX0_acquits_158 : decode cX0_acquits 158 = .ok (.iinc 6 1, 3) := dk_132 6 1 (dk_at dksX0_acquits_6 17 rfl rfl)
theorem dX0_acquits_161 : decode cX0_acquits 161 = .ok (.goto (-94), 3) := dk_167 255 162 (dk_at dksX0_acquits_6 20 rfl rfl)
theorem dX0_acquits_164 : decode cX0_acquits 164 = .ok (.iinc 5 1, 3) := dk_132 5 1 (dk_at dksX0_acquits_7 0 rfl rfl)
theorem dX0_acquits_167 : decode cX0_acquits 167 = .ok (.goto (-115), 3) := dk_167 255 141 (dk_at dksX0_acquits_7 3 rfl rfl)
theorem dX0_acquits_170 : decode cX0_acquits 170 = .ok (.return_, 1) := dk_177 (dk_at dksX0_acquits_7 6 rfl rfl)
abbrev cX0_sets : ByteArray := prog_1_method_38_code
def yX0_sets : MethodName := ⟨RX0, "sets", "(IIII)I"⟩
def dkwX0_sets_4 : List UInt8 := [167, 255, 205, 21, 4, 2, 160, 0, 8, 21, 5, 167, 0, 4, 2, 172]
abbrev dktX0_sets_4 : List UInt8 := dkwX0_sets_4 ++ []
def dkwX0_sets_3 : List UInt8 := [154, 0, 6, 167, 0, 16, 21, 5, 21, 4, 160, 0, 6, 21, 6, 172, 132, 5, 1, 132, 6, 1]
abbrev dktX0_sets_3 : List UInt8 := dkwX0_sets_3 ++ dktX0_sets_4
def dkwX0_sets_2 : List UInt8 := [180, 0, 63, 120, 162, 0, 43, 42, 21, 6, 28, 3, 5, 27, 104, 96, 28, 96, 29, 182, 0, 250]
abbrev dktX0_sets_2 : List UInt8 := dkwX0_sets_2 ++ dktX0_sets_3
def dkwX0_sets_1 : List UInt8 := [153, 0, 9, 21, 4, 2, 162, 0, 5, 2, 172, 3, 54, 5, 3, 54, 6, 21, 6, 4, 42, 180, 0, 12]
abbrev dktX0_sets_1 : List UInt8 := dkwX0_sets_1 ++ dktX0_sets_2
def dkwX0_sets_0 : List UInt8 := [27, 184, 0, 70, 153, 0, 27, 28, 184, 0, 74, 153, 0, 20, 29, 3, 17, 3, 231, 184, 0, 66]
abbrev dktX0_sets_0 : List UInt8 := dkwX0_sets_0 ++ dktX0_sets_1
theorem dksX0_sets_0 : cX0_sets.data.toList.drop 0 = dktX0_sets_0 := by decide +kernel
theorem dksX0_sets_1 : cX0_sets.data.toList.drop 22 = dktX0_sets_1 := dk_seg dksX0_sets_0 22 rfl rfl
theorem dksX0_sets_2 : cX0_sets.data.toList.drop 46 = dktX0_sets_2 := dk_seg dksX0_sets_1 24 rfl rfl
theorem dksX0_sets_3 : cX0_sets.data.toList.drop 68 = dktX0_sets_3 := dk_seg dksX0_sets_2 22 rfl rfl
theorem dksX0_sets_4 : cX0_sets.data.toList.drop 90 = dktX0_sets_4 := dk_seg dksX0_sets_3 22 rfl rfl
theorem dX0_sets_0 : decode cX0_sets 0 = .ok (.iload_n 1, 1) := dk_27 (dk_at dksX0_sets_0 0 rfl rfl)
theorem dX0_sets_1 : decode cX0_sets 1 = .ok (.invokestatic 70, 3) := dk_184 0 70 (dk_at dksX0_sets_0 1 rfl rfl)
theorem dX0_sets_4 : decode cX0_sets 4 = .ok (.ifCond .eq 27, 3) := dk_153 0 27 (dk_at dksX0_sets_0 4 rfl rfl)
theorem dX0_sets_7 : decode cX0_sets 7 = .ok (.iload_n 2, 1) := dk_28 (dk_at dksX0_sets_0 7 rfl rfl)
theorem dX0_sets_8 : decode cX0_sets 8 = .ok (.invokestatic 74, 3) := dk_184 0 74 (dk_at dksX0_sets_0 8 rfl rfl)
theorem dX0_sets_11 : decode cX0_sets 11 = .ok (.ifCond .eq 20, 3) := dk_153 0 20 (dk_at dksX0_sets_0 11 rfl rfl)
theorem dX0_sets_14 : decode cX0_sets 14 = .ok (.iload_n 3, 1) := dk_29 (dk_at dksX0_sets_0 14 rfl rfl)
theorem dX0_sets_15 : decode cX0_sets 15 = .ok (.iconst 0, 1) := dk_3 (dk_at dksX0_sets_0 15 rfl rfl)
theorem dX0_sets_16 : decode cX0_sets 16 = .ok (.sipush 999, 3) := dk_17 3 231 (dk_at dksX0_sets_0 16 rfl rfl)
theorem dX0_sets_19 : decode cX0_sets 19 = .ok (.invokestatic 66, 3) := dk_184 0 66 (dk_at dksX0_sets_0 19 rfl rfl)
theorem dX0_sets_22 : decode cX0_sets 22 = .ok (.ifCond .eq 9, 3) := dk_153 0 9 (dk_at dksX0_sets_1 0 rfl rfl)
theorem dX0_sets_25 : decode cX0_sets 25 = .ok (.iload 4, 2) := dk_21 4 (dk_at dksX0_sets_1 3 rfl rfl)
theorem dX0_sets_27 : decode cX0_sets 27 = .ok (.iconst (-1), 1) := dk_2 (dk_at dksX0_sets_1 5 rfl rfl)
theorem dX0_sets_28 : decode cX0_sets 28 = .ok (.if_icmp .ge 5, 3) := dk_162 0 5 (dk_at dksX0_sets_1 6 rfl rfl)
theorem dX0_sets_31 : decode cX0_sets 31 = .ok (.iconst (-1), 1) := dk_2 (dk_at dksX0_sets_1 9 rfl rfl)
theorem dX0_sets_32 : decode cX0_sets 32 = .ok (.ireturn, 1) := dk_172 (dk_at dksX0_sets_1 10 rfl rfl)
theorem dX0_sets_33 : decode cX0_sets 33 = .ok (.iconst 0, 1) := dk_3 (dk_at dksX0_sets_1 11 rfl rfl)
theorem dX0_sets_34 : decode cX0_sets 34 = .ok (.istore 5, 2) := dk_54 5 (dk_at dksX0_sets_1 12 rfl rfl)
theorem dX0_sets_36 : decode cX0_sets 36 = .ok (.iconst 0, 1) := dk_3 (dk_at dksX0_sets_1 14 rfl rfl)
theorem dX0_sets_37 : decode cX0_sets 37 = .ok (.istore 6, 2) := dk_54 6 (dk_at dksX0_sets_1 15 rfl rfl)
theorem dX0_sets_39 : decode cX0_sets 39 = .ok (.iload 6, 2) := dk_21 6 (dk_at dksX0_sets_1 17 rfl rfl)
theorem dX0_sets_41 : decode cX0_sets 41 = .ok (.iconst 1, 1) := dk_4 (dk_at dksX0_sets_1 19 rfl rfl)
theorem dX0_sets_42 : decode cX0_sets 42 = .ok (.aload_n 0, 1) := dk_42 (dk_at dksX0_sets_1 20 rfl rfl)
theorem dX0_sets_43 : decode cX0_sets 43 = .ok (.getfield 12, 3) := dk_180 0 12 (dk_at dksX0_sets_1 21 rfl rfl)
theorem dX0_sets_46 : decode cX0_sets 46 = .ok (.getfield 63, 3) := dk_180 0 63 (dk_at dksX0_sets_2 0 rfl rfl)
theorem dX0_sets_49 : decode cX0_sets 49 = .ok (.ishl, 1) := dk_120 (dk_at dksX0_sets_2 3 rfl rfl)
theorem dX0_sets_50 : decode cX0_sets 50 = .ok (.if_icmp .ge 43, 3) := dk_162 0 43 (dk_at dksX0_sets_2 4 rfl rfl)
theorem dX0_sets_53 : decode cX0_sets 53 = .ok (.aload_n 0, 1) := dk_42 (dk_at dksX0_sets_2 7 rfl rfl)
theorem dX0_sets_54 : decode cX0_sets 54 = .ok (.iload 6, 2) := dk_21 6 (dk_at dksX0_sets_2 8 rfl rfl)
theorem dX0_sets_56 : decode cX0_sets 56 = .ok (.iload_n 2, 1) := dk_28 (dk_at dksX0_sets_2 10 rfl rfl)
theorem dX0_sets_57 : decode cX0_sets 57 = .ok (.iconst 0, 1) := dk_3 (dk_at dksX0_sets_2 11 rfl rfl)
theorem dX0_sets_58 : decode cX0_sets 58 = .ok (.iconst 2, 1) := dk_5 (dk_at dksX0_sets_2 12 rfl rfl)
theorem dX0_sets_59 : decode cX0_sets 59 = .ok (.iload_n 1, 1) := dk_27 (dk_at dksX0_sets_2 13 rfl rfl)
theorem dX0_sets_60 : decode cX0_sets 60 = .ok (.imul, 1) := dk_104 (dk_at dksX0_sets_2 14 rfl rfl)
theorem dX0_sets_61 : decode cX0_sets 61 = .ok (.iadd, 1) := dk_96 (dk_at dksX0_sets_2 15 rfl rfl)
theorem dX0_sets_62 : decode cX0_sets 62 = .ok (.iload_n 2, 1) := dk_28 (dk_at dksX0_sets_2 16 rfl rfl)
theorem dX0_sets_63 : decode cX0_sets 63 = .ok (.iadd, 1) := dk_96 (dk_at dksX0_sets_2 17 rfl rfl)
theorem dX0_sets_64 : decode cX0_sets 64 = .ok (.iload_n 3, 1) := dk_29 (dk_at dksX0_sets_2 18 rfl rfl)
theorem dX0_sets_65 : decode cX0_sets 65 = .ok (.invokevirtual 250, 3) := dk_182 0 250 (dk_at dksX0_sets_2 19 rfl rfl)
theorem dX0_sets_68 : decode cX0_sets 68 = .ok (.ifCond .ne 6, 3) := dk_154 0 6 (dk_at dksX0_sets_3 0 rfl rfl)
theorem dX0_sets_71 : decode cX0_sets 71 = .ok (.goto 16, 3) := dk_167 0 16 (dk_at dksX0_sets_3 3 rfl rfl)
theorem dX0_sets_74 : decode cX0_sets 74 = .ok (.iload 5, 2) := dk_21 5 (dk_at dksX0_sets_3 6 rfl rfl)
theorem dX0_sets_76 : decode cX0_sets 76 = .ok (.iload 4, 2) := dk_21 4 (dk_at dksX0_sets_3 8 rfl rfl)
theorem dX0_sets_78 : decode cX0_sets 78 = .ok (.if_icmp .ne 6, 3) := dk_160 0 6 (dk_at dksX0_sets_3 10 rfl rfl)
theorem dX0_sets_81 : decode cX0_sets 81 = .ok (.iload 6, 2) := dk_21 6 (dk_at dksX0_sets_3 13 rfl rfl)
theorem dX0_sets_83 : decode cX0_sets 83 = .ok (.ireturn, 1) := dk_172 (dk_at dksX0_sets_3 15 rfl rfl)
theorem dX0_sets_84 : decode cX0_sets 84 = .ok (.iinc 5 1, 3) := dk_132 5 1 (dk_at dksX0_sets_3 16 rfl rfl)
theorem dX0_sets_87 : decode cX0_sets 87 = .ok (.iinc 6 1, 3) := dk_132 6 1 (dk_at dksX0_sets_3 19 rfl rfl)
theorem dX0_sets_90 : decode cX0_sets 90 = .ok (.goto (-51), 3) := dk_167 255 205 (dk_at dksX0_sets_4 0 rfl rfl)
theorem dX0_sets_93 : decode cX0_sets 93 = .ok (.iload 4, 2) := dk_21 4 (dk_at dksX0_sets_4 3 rfl rfl)
theorem dX0_sets_95 : decode cX0_sets 95 = .ok (.iconst (-1), 1) := dk_2 (dk_at dksX0_sets_4 5 rfl rfl)
theorem dX0_sets_96 : decode cX0_sets 96 = .ok (.if_icmp .ne 8, 3) := dk_160 0 8 (dk_at dksX0_sets_4 6 rfl rfl)
theorem dX0_sets_99 : decode cX0_sets 99 = .ok (.iload 5, 2) := dk_21 5 (dk_at dksX0_sets_4 9 rfl rfl)
theorem dX0_sets_101 : decode cX0_sets 101 = .ok (.goto 4, 3) := dk_167 0 4 (dk_at dksX0_sets_4 11 rfl rfl)
theorem dX0_sets_104 : decode cX0_sets 104 = .ok (.iconst (-1), 1) := dk_2 (dk_at dksX0_sets_4 14 rfl rfl)
theorem dX0_sets_105 : decode cX0_sets 105 = .ok (.ireturn, 1) := dk_172 (dk_at dksX0_sets_4 15 rfl rfl)
abbrev cX0_leaves : ByteArray := prog_1_method_37_code
def yX0_leaves : MethodName := ⟨RX0, "leaves", "(IIII)Z"⟩
def dkwX0_leaves_3 : List UInt8 := [25, 5, 29, 46, 21, 4, 160, 0, 7, 4, 167, 0, 4, 3, 172]
abbrev dktX0_leaves_3 : List UInt8 := dkwX0_leaves_3 ++ []
def dkwX0_leaves_2 : List UInt8 := [160, 0, 17, 42, 25, 5, 21, 6, 28, 182, 0, 159, 154, 0, 5, 3, 172, 132, 6, 1, 167, 255, 217]
abbrev dktX0_leaves_2 : List UInt8 := dkwX0_leaves_2 ++ dktX0_leaves_3
def dkwX0_leaves_1 : List UInt8 := [3, 54, 6, 21, 6, 42, 180, 0, 12, 180, 0, 63, 162, 0, 33, 27, 21, 6, 122, 4, 126, 4]
abbrev dktX0_leaves_1 : List UInt8 := dkwX0_leaves_1 ++ dktX0_leaves_2
def dkwX0_leaves_0 : List UInt8 := [42, 180, 0, 50, 4, 50, 58, 5, 42, 180, 0, 12, 180, 0, 77, 3, 25, 5, 3, 16, 25, 184, 0, 224]
abbrev dktX0_leaves_0 : List UInt8 := dkwX0_leaves_0 ++ dktX0_leaves_1
theorem dksX0_leaves_0 : cX0_leaves.data.toList.drop 0 = dktX0_leaves_0 := by decide +kernel
theorem dksX0_leaves_1 : cX0_leaves.data.toList.drop 24 = dktX0_leaves_1 := dk_seg dksX0_leaves_0 24 rfl rfl
theorem dksX0_leaves_2 : cX0_leaves.data.toList.drop 46 = dktX0_leaves_2 := dk_seg dksX0_leaves_1 22 rfl rfl
theorem dksX0_leaves_3 : cX0_leaves.data.toList.drop 69 = dktX0_leaves_3 := dk_seg dksX0_leaves_2 23 rfl rfl
theorem dX0_leaves_0 : decode cX0_leaves 0 = .ok (.aload_n 0, 1) := dk_42 (dk_at dksX0_leaves_0 0 rfl rfl)
theorem dX0_leaves_1 : decode cX0_leaves 1 = .ok (.getfield 50, 3) := dk_180 0 50 (dk_at dksX0_leaves_0 1 rfl rfl)
theorem dX0_leaves_4 : decode cX0_leaves 4 = .ok (.iconst 1, 1) := dk_4 (dk_at dksX0_leaves_0 4 rfl rfl)
theorem dX0_leaves_5 : decode cX0_leaves 5 = .ok (.aaload, 1) := dk_50 (dk_at dksX0_leaves_0 5 rfl rfl)
theorem dX0_leaves_6 : decode cX0_leaves 6 = .ok (.astore 5, 2) := dk_58 5 (dk_at dksX0_leaves_0 6 rfl rfl)
theorem dX0_leaves_8 : decode cX0_leaves 8 = .ok (.aload_n 0, 1) := dk_42 (dk_at dksX0_leaves_0 8 rfl rfl)
theorem dX0_leaves_9 : decode cX0_leaves 9 = .ok (.getfield 12, 3) := dk_180 0 12 (dk_at dksX0_leaves_0 9 rfl rfl)
theorem dX0_leaves_12 : decode cX0_leaves 12 = .ok (.getfield 77, 3) := dk_180 0 77 (dk_at dksX0_leaves_0 12 rfl rfl)
theorem dX0_leaves_15 : decode cX0_leaves 15 = .ok (.iconst 0, 1) := dk_3 (dk_at dksX0_leaves_0 15 rfl rfl)
theorem dX0_leaves_16 : decode cX0_leaves 16 = .ok (.aload 5, 2) := dk_25 5 (dk_at dksX0_leaves_0 16 rfl rfl)
theorem dX0_leaves_18 : decode cX0_leaves 18 = .ok (.iconst 0, 1) := dk_3 (dk_at dksX0_leaves_0 18 rfl rfl)
theorem dX0_leaves_19 : decode cX0_leaves 19 = .ok (.bipush 25, 2) := dk_16 25 (dk_at dksX0_leaves_0 19 rfl rfl)
theorem dX0_leaves_21 : decode cX0_leaves 21 = .ok (.invokestatic 224, 3) := dk_184 0 224 (dk_at dksX0_leaves_0 21 rfl rfl)
theorem dX0_leaves_24 : decode cX0_leaves 24 = .ok (.iconst 0, 1) := dk_3 (dk_at dksX0_leaves_1 0 rfl rfl)
theorem dX0_leaves_25 : decode cX0_leaves 25 = .ok (.istore 6, 2) := dk_54 6 (dk_at dksX0_leaves_1 1 rfl rfl)
theorem dX0_leaves_27 : decode cX0_leaves 27 = .ok (.iload 6, 2) := dk_21 6 (dk_at dksX0_leaves_1 3 rfl rfl)
theorem dX0_leaves_29 : decode cX0_leaves 29 = .ok (.aload_n 0, 1) := dk_42 (dk_at dksX0_leaves_1 5 rfl rfl)
theorem dX0_leaves_30 : decode cX0_leaves 30 = .ok (.getfield 12, 3) := dk_180 0 12 (dk_at dksX0_leaves_1 6 rfl rfl)
theorem dX0_leaves_33 : decode cX0_leaves 33 = .ok (.getfield 63, 3) := dk_180 0 63 (dk_at dksX0_leaves_1 9 rfl rfl)
theorem dX0_leaves_36 : decode cX0_leaves 36 = .ok (.if_icmp .ge 33, 3) := dk_162 0 33 (dk_at dksX0_leaves_1 12 rfl rfl)
theorem dX0_leaves_39 : decode cX0_leaves 39 = .ok (.iload_n 1, 1) := dk_27 (dk_at dksX0_leaves_1 15 rfl rfl)
theorem dX0_leaves_40 : decode cX0_leaves 40 = .ok (.iload 6, 2) := dk_21 6 (dk_at dksX0_leaves_1 16 rfl rfl)
theorem dX0_leaves_42 : decode cX0_leaves 42 = .ok (.ishr, 1) := dk_122 (dk_at dksX0_leaves_1 18 rfl rfl)
theorem dX0_leaves_43 : decode cX0_leaves 43 = .ok (.iconst 1, 1) := dk_4 (dk_at dksX0_leaves_1 19 rfl rfl)
theorem dX0_leaves_44 : decode cX0_leaves 44 = .ok (.iand, 1) := dk_126 (dk_at dksX0_leaves_1 20 rfl rfl)
theorem dX0_leaves_45 : decode cX0_leaves 45 = .ok (.iconst 1, 1) := dk_4 (dk_at dksX0_leaves_1 21 rfl rfl)
theorem dX0_leaves_46 : decode cX0_leaves 46 = .ok (.if_icmp .ne 17, 3) := dk_160 0 17 (dk_at dksX0_leaves_2 0 rfl rfl)
theorem dX0_leaves_49 : decode cX0_leaves 49 = .ok (.aload_n 0, 1) := dk_42 (dk_at dksX0_leaves_2 3 rfl rfl)
theorem dX0_leaves_50 : decode cX0_leaves 50 = .ok (.aload 5, 2) := dk_25 5 (dk_at dksX0_leaves_2 4 rfl rfl)
theorem dX0_leaves_52 : decode cX0_leaves 52 = .ok (.iload 6, 2) := dk_21 6 (dk_at dksX0_leaves_2 6 rfl rfl)
theorem dX0_leaves_54 : decode cX0_leaves 54 = .ok (.iload_n 2, 1) := dk_28 (dk_at dksX0_leaves_2 8 rfl rfl)
theorem dX0_leaves_55 : decode cX0_leaves 55 = .ok (.invokevirtual 159, 3) := dk_182 0 159 (dk_at dksX0_leaves_2 9 rfl rfl)
theorem dX0_leaves_58 : decode cX0_leaves 58 = .ok (.ifCond .ne 5, 3) := dk_154 0 5 (dk_at dksX0_leaves_2 12 rfl rfl)
theorem dX0_leaves_61 : decode cX0_leaves 61 = .ok (.iconst 0, 1) := dk_3 (dk_at dksX0_leaves_2 15 rfl rfl)
theorem dX0_leaves_62 : decode cX0_leaves 62 = .ok (.ireturn, 1) := dk_172 (dk_at dksX0_leaves_2 16 rfl rfl)
theorem dX0_leaves_63 : decode cX0_leaves 63 = .ok (.iinc 6 1, 3) := dk_132 6 1 (dk_at dksX0_leaves_2 17 rfl rfl)
theorem dX0_leaves_66 : decode cX0_leaves 66 = .ok (.goto (-39), 3) := dk_167 255 217 (dk_at dksX0_leaves_2 20 rfl rfl)
theorem dX0_leaves_69 : decode cX0_leaves 69 = .ok (.aload 5, 2) := dk_25 5 (dk_at dksX0_leaves_3 0 rfl rfl)
theorem dX0_leaves_71 : decode cX0_leaves 71 = .ok (.iload_n 3, 1) := dk_29 (dk_at dksX0_leaves_3 2 rfl rfl)
theorem dX0_leaves_72 : decode cX0_leaves 72 = .ok (.iaload, 1) := dk_46 (dk_at dksX0_leaves_3 3 rfl rfl)
theorem dX0_leaves_73 : decode cX0_leaves 73 = .ok (.iload 4, 2) := dk_21 4 (dk_at dksX0_leaves_3 4 rfl rfl)
theorem dX0_leaves_75 : decode cX0_leaves 75 = .ok (.if_icmp .ne 7, 3) := dk_160 0 7 (dk_at dksX0_leaves_3 6 rfl rfl)
theorem dX0_leaves_78 : decode cX0_leaves 78 = .ok (.iconst 1, 1) := dk_4 (dk_at dksX0_leaves_3 9 rfl rfl)
theorem dX0_leaves_79 : decode cX0_leaves 79 = .ok (.goto 4, 3) := dk_167 0 4 (dk_at dksX0_leaves_3 10 rfl rfl)
theorem dX0_leaves_82 : decode cX0_leaves 82 = .ok (.iconst 0, 1) := dk_3 (dk_at dksX0_leaves_3 13 rfl rfl)
theorem dX0_leaves_83 : decode cX0_leaves 83 = .ok (.ireturn, 1) := dk_172 (dk_at dksX0_leaves_3 14 rfl rfl)
abbrev cX0_tested : ByteArray := prog_1_method_39_code
def yX0_tested : MethodName := ⟨RX0, "tested", "(II)I"⟩
def dkwX0_tested_3 : List UInt8 := [180, 0, 12, 89, 180, 0, 254, 4, 96, 90, 181, 0, 254, 172]
abbrev dktX0_tested_3 : List UInt8 := dkwX0_tested_3 ++ []
def dkwX0_tested_2 : List UInt8 := [50, 3, 27, 79, 42, 180, 0, 12, 180, 1, 1, 42, 180, 0, 12, 180, 0, 254, 50, 4, 28, 79, 42]
abbrev dktX0_tested_2 : List UInt8 := dkwX0_tested_2 ++ dktX0_tested_3
def dkwX0_tested_1 : List UInt8 := [180, 0, 254, 16, 12, 160, 0, 5, 2, 172, 42, 180, 0, 12, 180, 1, 1, 42, 180, 0, 12, 180, 0, 254]
abbrev dktX0_tested_1 : List UInt8 := dkwX0_tested_1 ++ dktX0_tested_2
def dkwX0_tested_0 : List UInt8 := [27, 16, 236, 16, 20, 184, 0, 66, 153, 0, 24, 28, 2, 4, 184, 0, 66, 153, 0, 15, 42, 180, 0, 12]
abbrev dktX0_tested_0 : List UInt8 := dkwX0_tested_0 ++ dktX0_tested_1
theorem dksX0_tested_0 : cX0_tested.data.toList.drop 0 = dktX0_tested_0 := by decide +kernel
theorem dksX0_tested_1 : cX0_tested.data.toList.drop 24 = dktX0_tested_1 := dk_seg dksX0_tested_0 24 rfl rfl
theorem dksX0_tested_2 : cX0_tested.data.toList.drop 48 = dktX0_tested_2 := dk_seg dksX0_tested_1 24 rfl rfl
theorem dksX0_tested_3 : cX0_tested.data.toList.drop 71 = dktX0_tested_3 := dk_seg dksX0_tested_2 23 rfl rfl
theorem dX0_tested_0 : decode cX0_tested 0 = .ok (.iload_n 1, 1) := dk_27 (dk_at dksX0_tested_0 0 rfl rfl)
theorem dX0_tested_1 : decode cX0_tested 1 = .ok (.bipush (-20), 2) := dk_16 236 (dk_at dksX0_tested_0 1 rfl rfl)
theorem dX0_tested_3 : decode cX0_tested 3 = .ok (.bipush 20, 2) := dk_16 20 (dk_at dksX0_tested_0 3 rfl rfl)
theorem dX0_tested_5 : decode cX0_tested 5 = .ok (.invokestatic 66, 3) := dk_184 0 66 (dk_at dksX0_tested_0 5 rfl rfl)
theorem dX0_tested_8 : decode cX0_tested 8 = .ok (.ifCond .eq 24, 3) := dk_153 0 24 (dk_at dksX0_tested_0 8 rfl rfl)
theorem dX0_tested_11 : decode cX0_tested 11 = .ok (.iload_n 2, 1) := dk_28 (dk_at dksX0_tested_0 11 rfl rfl)
theorem dX0_tested_12 : decode cX0_tested 12 = .ok (.iconst (-1), 1) := dk_2 (dk_at dksX0_tested_0 12 rfl rfl)
theorem dX0_tested_13 : decode cX0_tested 13 = .ok (.iconst 1, 1) := dk_4 (dk_at dksX0_tested_0 13 rfl rfl)
theorem dX0_tested_14 : decode cX0_tested 14 = .ok (.invokestatic 66, 3) := dk_184 0 66 (dk_at dksX0_tested_0 14 rfl rfl)
theorem dX0_tested_17 : decode cX0_tested 17 = .ok (.ifCond .eq 15, 3) := dk_153 0 15 (dk_at dksX0_tested_0 17 rfl rfl)
theorem dX0_tested_20 : decode cX0_tested 20 = .ok (.aload_n 0, 1) := dk_42 (dk_at dksX0_tested_0 20 rfl rfl)
theorem dX0_tested_21 : decode cX0_tested 21 = .ok (.getfield 12, 3) := dk_180 0 12 (dk_at dksX0_tested_0 21 rfl rfl)
theorem dX0_tested_24 : decode cX0_tested 24 = .ok (.getfield 254, 3) := dk_180 0 254 (dk_at dksX0_tested_1 0 rfl rfl)
theorem dX0_tested_27 : decode cX0_tested 27 = .ok (.bipush 12, 2) := dk_16 12 (dk_at dksX0_tested_1 3 rfl rfl)
theorem dX0_tested_29 : decode cX0_tested 29 = .ok (.if_icmp .ne 5, 3) := dk_160 0 5 (dk_at dksX0_tested_1 5 rfl rfl)
theorem dX0_tested_32 : decode cX0_tested 32 = .ok (.iconst (-1), 1) := dk_2 (dk_at dksX0_tested_1 8 rfl rfl)
theorem dX0_tested_33 : decode cX0_tested 33 = .ok (.ireturn, 1) := dk_172 (dk_at dksX0_tested_1 9 rfl rfl)
theorem dX0_tested_34 : decode cX0_tested 34 = .ok (.aload_n 0, 1) := dk_42 (dk_at dksX0_tested_1 10 rfl rfl)
theorem dX0_tested_35 : decode cX0_tested 35 = .ok (.getfield 12, 3) := dk_180 0 12 (dk_at dksX0_tested_1 11 rfl rfl)
theorem dX0_tested_38 : decode cX0_tested 38 = .ok (.getfield 257, 3) := dk_180 1 1 (dk_at dksX0_tested_1 14 rfl rfl)
theorem dX0_tested_41 : decode cX0_tested 41 = .ok (.aload_n 0, 1) := dk_42 (dk_at dksX0_tested_1 17 rfl rfl)
theorem dX0_tested_42 : decode cX0_tested 42 = .ok (.getfield 12, 3) := dk_180 0 12 (dk_at dksX0_tested_1 18 rfl rfl)
theorem dX0_tested_45 : decode cX0_tested 45 = .ok (.getfield 254, 3) := dk_180 0 254 (dk_at dksX0_tested_1 21 rfl rfl)
theorem dX0_tested_48 : decode cX0_tested 48 = .ok (.aaload, 1) := dk_50 (dk_at dksX0_tested_2 0 rfl rfl)
theorem dX0_tested_49 : decode cX0_tested 49 = .ok (.iconst 0, 1) := dk_3 (dk_at dksX0_tested_2 1 rfl rfl)
theorem dX0_tested_50 : decode cX0_tested 50 = .ok (.iload_n 1, 1) := dk_27 (dk_at dksX0_tested_2 2 rfl rfl)
theorem dX0_tested_51 : decode cX0_tested 51 = .ok (.iastore, 1) := dk_79 (dk_at dksX0_tested_2 3 rfl rfl)
theorem dX0_tested_52 : decode cX0_tested 52 = .ok (.aload_n 0, 1) := dk_42 (dk_at dksX0_tested_2 4 rfl rfl)
theorem dX0_tested_53 : decode cX0_tested 53 = .ok (.getfield 12, 3) := dk_180 0 12 (dk_at dksX0_tested_2 5 rfl rfl)
theorem dX0_tested_56 : decode cX0_tested 56 = .ok (.getfield 257, 3) := dk_180 1 1 (dk_at dksX0_tested_2 8 rfl rfl)
theorem dX0_tested_59 : decode cX0_tested 59 = .ok (.aload_n 0, 1) := dk_42 (dk_at dksX0_tested_2 11 rfl rfl)
theorem dX0_tested_60 : decode cX0_tested 60 = .ok (.getfield 12, 3) := dk_180 0 12 (dk_at dksX0_tested_2 12 rfl rfl)
theorem dX0_tested_63 : decode cX0_tested 63 = .ok (.getfield 254, 3) := dk_180 0 254 (dk_at dksX0_tested_2 15 rfl rfl)
theorem dX0_tested_66 : decode cX0_tested 66 = .ok (.aaload, 1) := dk_50 (dk_at dksX0_tested_2 18 rfl rfl)
theorem dX0_tested_67 : decode cX0_tested 67 = .ok (.iconst 1, 1) := dk_4 (dk_at dksX0_tested_2 19 rfl rfl)
theorem dX0_tested_68 : decode cX0_tested 68 = .ok (.iload_n 2, 1) := dk_28 (dk_at dksX0_tested_2 20 rfl rfl)
theorem dX0_tested_69 : decode cX0_tested 69 = .ok (.iastore, 1) := dk_79 (dk_at dksX0_tested_2 21 rfl rfl)
theorem dX0_tested_70 : decode cX0_tested 70 = .ok (.aload_n 0, 1) := dk_42 (dk_at dksX0_tested_2 22 rfl rfl)
theorem dX0_tested_71 : decode cX0_tested 71 = .ok (.getfield 12, 3) := dk_180 0 12 (dk_at dksX0_tested_3 0 rfl rfl)
theorem dX0_tested_74 : decode cX0_tested 74 = .ok (.dup, 1) := dk_89 (dk_at dksX0_tested_3 3 rfl rfl)
theorem dX0_tested_75 : decode cX0_tested 75 = .ok (.getfield 254, 3) := dk_180 0 254 (dk_at dksX0_tested_3 4 rfl rfl)
theorem dX0_tested_78 : decode cX0_tested 78 = .ok (.iconst 1, 1) := dk_4 (dk_at dksX0_tested_3 7 rfl rfl)
theorem dX0_tested_79 : decode cX0_tested 79 = .ok (.iadd, 1) := dk_96 (dk_at dksX0_tested_3 8 rfl rfl)
theorem dX0_tested_80 : decode cX0_tested 80 = .ok (.dup_x1, 1) := dk_90 (dk_at dksX0_tested_3 9 rfl rfl)
theorem dX0_tested_81 : decode cX0_tested 81 = .ok (.putfield 254, 3) := dk_181 0 254 (dk_at dksX0_tested_3 10 rfl rfl)
theorem dX0_tested_84 : decode cX0_tested 84 = .ok (.ireturn, 1) := dk_172 (dk_at dksX0_tested_3 13 rfl rfl)
abbrev cX0_fits : ByteArray := prog_1_method_42_code
def yX0_fits : MethodName := ⟨RX0, "fits", "()I"⟩
def dkwX0_fits_1 : List UInt8 := [167, 0, 4, 3, 128, 60, 132, 2, 1, 167, 255, 229, 27, 172]
abbrev dktX0_fits_1 : List UInt8 := dkwX0_fits_1 ++ []
def dkwX0_fits_0 : List UInt8 := [3, 60, 3, 61, 28, 16, 10, 162, 0, 27, 27, 42, 28, 182, 1, 10, 153, 0, 9, 4, 28, 120]
abbrev dktX0_fits_0 : List UInt8 := dkwX0_fits_0 ++ dktX0_fits_1
theorem dksX0_fits_0 : cX0_fits.data.toList.drop 0 = dktX0_fits_0 := by decide +kernel
theorem dksX0_fits_1 : cX0_fits.data.toList.drop 22 = dktX0_fits_1 := dk_seg dksX0_fits_0 22 rfl rfl
theorem dX0_fits_0 : decode cX0_fits 0 = .ok (.iconst 0, 1) := dk_3 (dk_at dksX0_fits_0 0 rfl rfl)
theorem dX0_fits_1 : decode cX0_fits 1 = .ok (.istore_n 1, 1) := dk_60 (dk_at dksX0_fits_0 1 rfl rfl)
theorem dX0_fits_2 : decode cX0_fits 2 = .ok (.iconst 0, 1) := dk_3 (dk_at dksX0_fits_0 2 rfl rfl)
theorem dX0_fits_3 : decode cX0_fits 3 = .ok (.istore_n 2, 1) := dk_61 (dk_at dksX0_fits_0 3 rfl rfl)
theorem dX0_fits_4 : decode cX0_fits 4 = .ok (.iload_n 2, 1) := dk_28 (dk_at dksX0_fits_0 4 rfl rfl)
theorem dX0_fits_5 : decode cX0_fits 5 = .ok (.bipush 10, 2) := dk_16 10 (dk_at dksX0_fits_0 5 rfl rfl)
theorem dX0_fits_7 : decode cX0_fits 7 = .ok (.if_icmp .ge 27, 3) := dk_162 0 27 (dk_at dksX0_fits_0 7 rfl rfl)
theorem dX0_fits_10 : decode cX0_fits 10 = .ok (.iload_n 1, 1) := dk_27 (dk_at dksX0_fits_0 10 rfl rfl)
theorem dX0_fits_11 : decode cX0_fits 11 = .ok (.aload_n 0, 1) := dk_42 (dk_at dksX0_fits_0 11 rfl rfl)
theorem dX0_fits_12 : decode cX0_fits 12 = .ok (.iload_n 2, 1) := dk_28 (dk_at dksX0_fits_0 12 rfl rfl)
theorem dX0_fits_13 : decode cX0_fits 13 = .ok (.invokevirtual 266, 3) := dk_182 1 10 (dk_at dksX0_fits_0 13 rfl rfl)
theorem dX0_fits_16 : decode cX0_fits 16 = .ok (.ifCond .eq 9, 3) := dk_153 0 9 (dk_at dksX0_fits_0 16 rfl rfl)
theorem dX0_fits_19 : decode cX0_fits 19 = .ok (.iconst 1, 1) := dk_4 (dk_at dksX0_fits_0 19 rfl rfl)
theorem dX0_fits_20 : decode cX0_fits 20 = .ok (.iload_n 2, 1) := dk_28 (dk_at dksX0_fits_0 20 rfl rfl)
theorem dX0_fits_21 : decode cX0_fits 21 = .ok (.ishl, 1) := dk_120 (dk_at dksX0_fits_0 21 rfl rfl)
theorem dX0_fits_22 : decode cX0_fits 22 = .ok (.goto 4, 3) := dk_167 0 4 (dk_at dksX0_fits_1 0 rfl rfl)
theorem dX0_fits_25 : decode cX0_fits 25 = .ok (.iconst 0, 1) := dk_3 (dk_at dksX0_fits_1 3 rfl rfl)
theorem dX0_fits_26 : decode cX0_fits 26 = .ok (.ior, 1) := dk_128 (dk_at dksX0_fits_1 4 rfl rfl)
theorem dX0_fits_27 : decode cX0_fits 27 = .ok (.istore_n 1, 1) := dk_60 (dk_at dksX0_fits_1 5 rfl rfl)
theorem dX0_fits_28 : decode cX0_fits 28 = .ok (.iinc 2 1, 3) := dk_132 2 1 (dk_at dksX0_fits_1 6 rfl rfl)
theorem dX0_fits_31 : decode cX0_fits 31 = .ok (.goto (-27), 3) := dk_167 255 229 (dk_at dksX0_fits_1 9 rfl rfl)
theorem dX0_fits_34 : decode cX0_fits 34 = .ok (.iload_n 1, 1) := dk_27 (dk_at dksX0_fits_1 12 rfl rfl)
theorem dX0_fits_35 : decode cX0_fits 35 = .ok (.ireturn, 1) := dk_172 (dk_at dksX0_fits_1 13 rfl rfl)
abbrev cX0_isFit : ByteArray := prog_1_method_41_code
def yX0_isFit : MethodName := ⟨RX0, "isFit", "(I)Z"⟩
def dkwX0_isFit_2 : List UInt8 := [167, 255, 211, 4, 172]
abbrev dktX0_isFit_2 : List UInt8 := dkwX0_isFit_2 ++ []
def dkwX0_isFit_1 : List UInt8 := [27, 184, 1, 7, 42, 180, 0, 12, 180, 1, 1, 28, 50, 4, 46, 159, 0, 5, 3, 172, 132, 2, 1]
abbrev dktX0_isFit_1 : List UInt8 := dkwX0_isFit_1 ++ dktX0_isFit_2
def dkwX0_isFit_0 : List UInt8 := [3, 61, 28, 42, 180, 0, 12, 180, 0, 254, 162, 0, 40, 42, 180, 0, 12, 180, 1, 1, 28, 50, 3, 46]
abbrev dktX0_isFit_0 : List UInt8 := dkwX0_isFit_0 ++ dktX0_isFit_1
theorem dksX0_isFit_0 : cX0_isFit.data.toList.drop 0 = dktX0_isFit_0 := by decide +kernel
theorem dksX0_isFit_1 : cX0_isFit.data.toList.drop 24 = dktX0_isFit_1 := dk_seg dksX0_isFit_0 24 rfl rfl
theorem dksX0_isFit_2 : cX0_isFit.data.toList.drop 47 = dktX0_isFit_2 := dk_seg dksX0_isFit_1 23 rfl rfl
theorem dX0_isFit_0 : decode cX0_isFit 0 = .ok (.iconst 0, 1) := dk_3 (dk_at dksX0_isFit_0 0 rfl rfl)
theorem dX0_isFit_1 : decode cX0_isFit 1 = .ok (.istore_n 2, 1) := dk_61 (dk_at dksX0_isFit_0 1 rfl rfl)
theorem dX0_isFit_2 : decode cX0_isFit 2 = .ok (.iload_n 2, 1) := dk_28 (dk_at dksX0_isFit_0 2 rfl rfl)
theorem dX0_isFit_3 : decode cX0_isFit 3 = .ok (.aload_n 0, 1) := dk_42 (dk_at dksX0_isFit_0 3 rfl rfl)
theorem dX0_isFit_4 : decode cX0_isFit 4 = .ok (.getfield 12, 3) := dk_180 0 12 (dk_at dksX0_isFit_0 4 rfl rfl)
theorem dX0_isFit_7 : decode cX0_isFit 7 = .ok (.getfield 254, 3) := dk_180 0 254 (dk_at dksX0_isFit_0 7 rfl rfl)
theorem dX0_isFit_10 : decode cX0_isFit 10 = .ok (.if_icmp .ge 40, 3) := dk_162 0 40 (dk_at dksX0_isFit_0 10 rfl rfl)
theorem dX0_isFit_13 : decode cX0_isFit 13 = .ok (.aload_n 0, 1) := dk_42 (dk_at dksX0_isFit_0 13 rfl rfl)
theorem dX0_isFit_14 : decode cX0_isFit 14 = .ok (.getfield 12, 3) := dk_180 0 12 (dk_at dksX0_isFit_0 14 rfl rfl)
theorem dX0_isFit_17 : decode cX0_isFit 17 = .ok (.getfield 257, 3) := dk_180 1 1 (dk_at dksX0_isFit_0 17 rfl rfl)
theorem dX0_isFit_20 : decode cX0_isFit 20 = .ok (.iload_n 2, 1) := dk_28 (dk_at dksX0_isFit_0 20 rfl rfl)
theorem dX0_isFit_21 : decode cX0_isFit 21 = .ok (.aaload, 1) := dk_50 (dk_at dksX0_isFit_0 21 rfl rfl)
theorem dX0_isFit_22 : decode cX0_isFit 22 = .ok (.iconst 0, 1) := dk_3 (dk_at dksX0_isFit_0 22 rfl rfl)
theorem dX0_isFit_23 : decode cX0_isFit 23 = .ok (.iaload, 1) := dk_46 (dk_at dksX0_isFit_0 23 rfl rfl)
theorem dX0_isFit_24 : decode cX0_isFit 24 = .ok (.iload_n 1, 1) := dk_27 (dk_at dksX0_isFit_1 0 rfl rfl)
theorem dX0_isFit_25 : decode cX0_isFit 25 = .ok (.invokestatic 263, 3) := dk_184 1 7 (dk_at dksX0_isFit_1 1 rfl rfl)
theorem dX0_isFit_28 : decode cX0_isFit 28 = .ok (.aload_n 0, 1) := dk_42 (dk_at dksX0_isFit_1 4 rfl rfl)
theorem dX0_isFit_29 : decode cX0_isFit 29 = .ok (.getfield 12, 3) := dk_180 0 12 (dk_at dksX0_isFit_1 5 rfl rfl)
theorem dX0_isFit_32 : decode cX0_isFit 32 = .ok (.getfield 257, 3) := dk_180 1 1 (dk_at dksX0_isFit_1 8 rfl rfl)
theorem dX0_isFit_35 : decode cX0_isFit 35 = .ok (.iload_n 2, 1) := dk_28 (dk_at dksX0_isFit_1 11 rfl rfl)
theorem dX0_isFit_36 : decode cX0_isFit 36 = .ok (.aaload, 1) := dk_50 (dk_at dksX0_isFit_1 12 rfl rfl)
theorem dX0_isFit_37 : decode cX0_isFit 37 = .ok (.iconst 1, 1) := dk_4 (dk_at dksX0_isFit_1 13 rfl rfl)
theorem dX0_isFit_38 : decode cX0_isFit 38 = .ok (.iaload, 1) := dk_46 (dk_at dksX0_isFit_1 14 rfl rfl)
theorem dX0_isFit_39 : decode cX0_isFit 39 = .ok (.if_icmp .eq 5, 3) := dk_159 0 5 (dk_at dksX0_isFit_1 15 rfl rfl)
theorem dX0_isFit_42 : decode cX0_isFit 42 = .ok (.iconst 0, 1) := dk_3 (dk_at dksX0_isFit_1 18 rfl rfl)
theorem dX0_isFit_43 : decode cX0_isFit 43 = .ok (.ireturn, 1) := dk_172 (dk_at dksX0_isFit_1 19 rfl rfl)
theorem dX0_isFit_44 : decode cX0_isFit 44 = .ok (.iinc 2 1, 3) := dk_132 2 1 (dk_at dksX0_isFit_1 20 rfl rfl)
theorem dX0_isFit_47 : decode cX0_isFit 47 = .ok (.goto (-45), 3) := dk_167 255 211 (dk_at dksX0_isFit_2 0 rfl rfl)
theorem dX0_isFit_50 : decode cX0_isFit 50 = .ok (.iconst 1, 1) := dk_4 (dk_at dksX0_isFit_2 3 rfl rfl)
theorem dX0_isFit_51 : decode cX0_isFit 51 = .ok (.ireturn, 1) := dk_172 (dk_at dksX0_isFit_2 4 rfl rfl)
abbrev cX0_hangs : ByteArray := prog_1_method_40_code
def yX0_hangs : MethodName := ⟨RX0, "hangs", "(II)I"⟩
def dkwX0_hangs_0 : List UInt8 := [26, 27, 96, 3, 184, 1, 4, 172]
abbrev dktX0_hangs_0 : List UInt8 := dkwX0_hangs_0 ++ []
theorem dksX0_hangs_0 : cX0_hangs.data.toList.drop 0 = dktX0_hangs_0 := by decide +kernel
theorem dX0_hangs_0 : decode cX0_hangs 0 = .ok (.iload_n 0, 1) := dk_26 (dk_at dksX0_hangs_0 0 rfl rfl)
theorem dX0_hangs_1 : decode cX0_hangs 1 = .ok (.iload_n 1, 1) := dk_27 (dk_at dksX0_hangs_0 1 rfl rfl)
theorem dX0_hangs_2 : decode cX0_hangs 2 = .ok (.iadd, 1) := dk_96 (dk_at dksX0_hangs_0 2 rfl rfl)
theorem dX0_hangs_3 : decode cX0_hangs 3 = .ok (.iconst 0, 1) := dk_3 (dk_at dksX0_hangs_0 3 rfl rfl)
theorem dX0_hangs_4 : decode cX0_hangs 4 = .ok (.invokestatic 260, 3) := dk_184 1 4 (dk_at dksX0_hangs_0 4 rfl rfl)
theorem dX0_hangs_7 : decode cX0_hangs 7 = .ok (.ireturn, 1) := dk_172 (dk_at dksX0_hangs_0 7 rfl rfl)
abbrev cX0_next : ByteArray := prog_1_method_43_code
def yX0_next : MethodName := ⟨RX0, "next", "()I"⟩
def dkwX0_next_5 : List UInt8 := [172]
abbrev dktX0_next_5 : List UInt8 := dkwX0_next_5 ++ []
def dkwX0_next_4 : List UInt8 := [54, 6, 21, 6, 29, 161, 0, 6, 167, 0, 9, 21, 6, 62, 21, 4, 61, 132, 4, 1, 167, 255, 164, 28]
abbrev dktX0_next_4 : List UInt8 := dkwX0_next_4 ++ dktX0_next_5
def dkwX0_next_3 : List UInt8 := [132, 6, 1, 167, 255, 220, 25, 5, 3, 46, 25, 5, 4, 46, 25, 5, 5, 46, 184, 0, 123, 184, 0, 123]
abbrev dktX0_next_3 : List UInt8 := dkwX0_next_3 ++ dktX0_next_4
def dkwX0_next_2 : List UInt8 := [4, 126, 4, 160, 0, 19, 25, 5, 4, 21, 4, 21, 6, 184, 1, 7, 96, 92, 46, 4, 96, 79]
abbrev dktX0_next_2 : List UInt8 := dkwX0_next_2 ++ dktX0_next_3
def dkwX0_next_1 : List UInt8 := [16, 20, 163, 0, 91, 6, 188, 10, 58, 5, 3, 54, 6, 21, 6, 16, 10, 162, 0, 35, 27, 21, 6, 122]
abbrev dktX0_next_1 : List UInt8 := dkwX0_next_1 ++ dktX0_next_2
def dkwX0_next_0 : List UInt8 := [42, 182, 1, 13, 60, 27, 154, 0, 6, 16, 157, 172, 3, 61, 16, 11, 62, 16, 236, 54, 4, 21, 4]
abbrev dktX0_next_0 : List UInt8 := dkwX0_next_0 ++ dktX0_next_1
theorem dksX0_next_0 : cX0_next.data.toList.drop 0 = dktX0_next_0 := by decide +kernel
theorem dksX0_next_1 : cX0_next.data.toList.drop 23 = dktX0_next_1 := dk_seg dksX0_next_0 23 rfl rfl
theorem dksX0_next_2 : cX0_next.data.toList.drop 47 = dktX0_next_2 := dk_seg dksX0_next_1 24 rfl rfl
theorem dksX0_next_3 : cX0_next.data.toList.drop 69 = dktX0_next_3 := dk_seg dksX0_next_2 22 rfl rfl
theorem dksX0_next_4 : cX0_next.data.toList.drop 93 = dktX0_next_4 := dk_seg dksX0_next_3 24 rfl rfl
theorem dksX0_next_5 : cX0_next.data.toList.drop 117 = dktX0_next_5 := dk_seg dksX0_next_4 24 rfl rfl
theorem dX0_next_0 : decode cX0_next 0 = .ok (.aload_n 0, 1) := dk_42 (dk_at dksX0_next_0 0 rfl rfl)
theorem dX0_next_1 : decode cX0_next 1 = .ok (.invokevirtual 269, 3) := dk_182 1 13 (dk_at dksX0_next_0 1 rfl rfl)
theorem dX0_next_4 : decode cX0_next 4 = .ok (.istore_n 1, 1) := dk_60 (dk_at dksX0_next_0 4 rfl rfl)
theorem dX0_next_5 : decode cX0_next 5 = .ok (.iload_n 1, 1) := dk_27 (dk_at dksX0_next_0 5 rfl rfl)
theorem dX0_next_6 : decode cX0_next 6 = .ok (.ifCond .ne 6, 3) := dk_154 0 6 (dk_at dksX0_next_0 6 rfl rfl)
theorem dX0_next_9 : decode cX0_next 9 = .ok (.bipush (-99), 2) := dk_16 157 (dk_at dksX0_next_0 9 rfl rfl)
theorem dX0_next_11 : decode cX0_next 11 = .ok (.ireturn, 1) := dk_172 (dk_at dksX0_next_0 11 rfl rfl)
theorem dX0_next_12 : decode cX0_next 12 = .ok (.iconst 0, 1) := dk_3 (dk_at dksX0_next_0 12 rfl rfl)
theorem dX0_next_13 : decode cX0_next 13 = .ok (.istore_n 2, 1) := dk_61 (dk_at dksX0_next_0 13 rfl rfl)
theorem dX0_next_14 : decode cX0_next 14 = .ok (.bipush 11, 2) := dk_16 11 (dk_at dksX0_next_0 14 rfl rfl)
theorem dX0_next_16 : decode cX0_next 16 = .ok (.istore_n 3, 1) := dk_62 (dk_at dksX0_next_0 16 rfl rfl)
theorem dX0_next_17 : decode cX0_next 17 = .ok (.bipush (-20), 2) := dk_16 236 (dk_at dksX0_next_0 17 rfl rfl)
theorem dX0_next_19 : decode cX0_next 19 = .ok (.istore 4, 2) := dk_54 4 (dk_at dksX0_next_0 19 rfl rfl)
theorem dX0_next_21 : decode cX0_next 21 = .ok (.iload 4, 2) := dk_21 4 (dk_at dksX0_next_0 21 rfl rfl)
theorem dX0_next_23 : decode cX0_next 23 = .ok (.bipush 20, 2) := dk_16 20 (dk_at dksX0_next_1 0 rfl rfl)
theorem dX0_next_25 : decode cX0_next 25 = .ok (.if_icmp .gt 91, 3) := dk_163 0 91 (dk_at dksX0_next_1 2 rfl rfl)
theorem dX0_next_28 : decode cX0_next 28 = .ok (.iconst 3, 1) := dk_6 (dk_at dksX0_next_1 5 rfl rfl)
theorem dX0_next_29 : decode cX0_next 29 = .ok (.newarray .int, 2) := dk_188_10 (dk_at dksX0_next_1 6 rfl rfl)
theorem dX0_next_31 : decode cX0_next 31 = .ok (.astore 5, 2) := dk_58 5 (dk_at dksX0_next_1 8 rfl rfl)
theorem dX0_next_33 : decode cX0_next 33 = .ok (.iconst 0, 1) := dk_3 (dk_at dksX0_next_1 10 rfl rfl)
theorem dX0_next_34 : decode cX0_next 34 = .ok (.istore 6, 2) := dk_54 6 (dk_at dksX0_next_1 11 rfl rfl)
theorem dX0_next_36 : decode cX0_next 36 = .ok (.iload 6, 2) := dk_21 6 (dk_at dksX0_next_1 13 rfl rfl)
theorem dX0_next_38 : decode cX0_next 38 = .ok (.bipush 10, 2) := dk_16 10 (dk_at dksX0_next_1 15 rfl rfl)
theorem dX0_next_40 : decode cX0_next 40 = .ok (.if_icmp .ge 35, 3) := dk_162 0 35 (dk_at dksX0_next_1 17 rfl rfl)
theorem dX0_next_43 : decode cX0_next 43 = .ok (.iload_n 1, 1) := dk_27 (dk_at dksX0_next_1 20 rfl rfl)
theorem dX0_next_44 : decode cX0_next 44 = .ok (.iload 6, 2) := dk_21 6 (dk_at dksX0_next_1 21 rfl rfl)
theorem dX0_next_46 : decode cX0_next 46 = .ok (.ishr, 1) := dk_122 (dk_at dksX0_next_1 23 rfl rfl)
theorem dX0_next_47 : decode cX0_next 47 = .ok (.iconst 1, 1) := dk_4 (dk_at dksX0_next_2 0 rfl rfl)
theorem dX0_next_48 : decode cX0_next 48 = .ok (.iand, 1) := dk_126 (dk_at dksX0_next_2 1 rfl rfl)
theorem dX0_next_49 : decode cX0_next 49 = .ok (.iconst 1, 1) := dk_4 (dk_at dksX0_next_2 2 rfl rfl)
theorem dX0_next_50 : decode cX0_next 50 = .ok (.if_icmp .ne 19, 3) := dk_160 0 19 (dk_at dksX0_next_2 3 rfl rfl)
theorem dX0_next_53 : decode cX0_next 53 = .ok (.aload 5, 2) := dk_25 5 (dk_at dksX0_next_2 6 rfl rfl)
theorem dX0_next_55 : decode cX0_next 55 = .ok (.iconst 1, 1) := dk_4 (dk_at dksX0_next_2 8 rfl rfl)
theorem dX0_next_56 : decode cX0_next 56 = .ok (.iload 4, 2) := dk_21 4 (dk_at dksX0_next_2 9 rfl rfl)
theorem dX0_next_58 : decode cX0_next 58 = .ok (.iload 6, 2) := dk_21 6 (dk_at dksX0_next_2 11 rfl rfl)
theorem dX0_next_60 : decode cX0_next 60 = .ok (.invokestatic 263, 3) := dk_184 1 7 (dk_at dksX0_next_2 13 rfl rfl)
theorem dX0_next_63 : decode cX0_next 63 = .ok (.iadd, 1) := dk_96 (dk_at dksX0_next_2 16 rfl rfl)
theorem dX0_next_64 : decode cX0_next 64 = .ok (.dup2, 1) := dk_92 (dk_at dksX0_next_2 17 rfl rfl)
theorem dX0_next_65 : decode cX0_next 65 = .ok (.iaload, 1) := dk_46 (dk_at dksX0_next_2 18 rfl rfl)
theorem dX0_next_66 : decode cX0_next 66 = .ok (.iconst 1, 1) := dk_4 (dk_at dksX0_next_2 19 rfl rfl)
theorem dX0_next_67 : decode cX0_next 67 = .ok (.iadd, 1) := dk_96 (dk_at dksX0_next_2 20 rfl rfl)
theorem dX0_next_68 : decode cX0_next 68 = .ok (.iastore, 1) := dk_79 (dk_at dksX0_next_2 21 rfl rfl)
theorem dX0_next_69 : decode cX0_next 69 = .ok (.iinc 6 1, 3) := dk_132 6 1 (dk_at dksX0_next_3 0 rfl rfl)
theorem dX0_next_72 : decode cX0_next 72 = .ok (.goto (-36), 3) := dk_167 255 220 (dk_at dksX0_next_3 3 rfl rfl)
theorem dX0_next_75 : decode cX0_next 75 = .ok (.aload 5, 2) := dk_25 5 (dk_at dksX0_next_3 6 rfl rfl)
theorem dX0_next_77 : decode cX0_next 77 = .ok (.iconst 0, 1) := dk_3 (dk_at dksX0_next_3 8 rfl rfl)
theorem dX0_next_78 : decode cX0_next 78 = .ok (.iaload, 1) := dk_46 (dk_at dksX0_next_3 9 rfl rfl)
theorem dX0_next_79 : decode cX0_next 79 = .ok (.aload 5, 2) := dk_25 5 (dk_at dksX0_next_3 10 rfl rfl)
theorem dX0_next_81 : decode cX0_next 81 = .ok (.iconst 1, 1) := dk_4 (dk_at dksX0_next_3 12 rfl rfl)
theorem dX0_next_82 : decode cX0_next 82 = .ok (.iaload, 1) := dk_46 (dk_at dksX0_next_3 13 rfl rfl)
theorem dX0_next_83 : decode cX0_next 83 = .ok (.aload 5, 2) := dk_25 5 (dk_at dksX0_next_3 14 rfl rfl)
theorem dX0_next_85 : decode cX0_next 85 = .ok (.iconst 2, 1) := dk_5 (dk_at dksX0_next_3 16 rfl rfl)
theorem dX0_next_86 : decode cX0_next 86 = .ok (.iaload, 1) := dk_46 (dk_at dksX0_next_3 17 rfl rfl)
theorem dX0_next_87 : decode cX0_next 87 = .ok (.invokestatic 123, 3) := dk_184 0 123 (dk_at dksX0_next_3 18 rfl rfl)
theorem dX0_next_90 : decode cX0_next 90 = .ok (.invokestatic 123, 3) := dk_184 0 123 (dk_at dksX0_next_3 21 rfl rfl)
theorem dX0_next_93 : decode cX0_next 93 = .ok (.istore 6, 2) := dk_54 6 (dk_at dksX0_next_4 0 rfl rfl)
theorem dX0_next_95 : decode cX0_next 95 = .ok (.iload 6, 2) := dk_21 6 (dk_at dksX0_next_4 2 rfl rfl)
theorem dX0_next_97 : decode cX0_next 97 = .ok (.iload_n 3, 1) := dk_29 (dk_at dksX0_next_4 4 rfl rfl)
theorem dX0_next_98 : decode cX0_next 98 = .ok (.if_icmp .lt 6, 3) := dk_161 0 6 (dk_at dksX0_next_4 5 rfl rfl)
theorem dX0_next_101 : decode cX0_next 101 = .ok (.goto 9, 3) := dk_167 0 9 (dk_at dksX0_next_4 8 rfl rfl)
theorem dX0_next_104 : decode cX0_next 104 = .ok (.iload 6, 2) := dk_21 6 (dk_at dksX0_next_4 11 rfl rfl)
theorem dX0_next_106 : decode cX0_next 106 = .ok (.istore_n 3, 1) := dk_62 (dk_at dksX0_next_4 13 rfl rfl)
theorem dX0_next_107 : decode cX0_next 107 = .ok (.iload 4, 2) := dk_21 4 (dk_at dksX0_next_4 14 rfl rfl)
theorem dX0_next_109 : decode cX0_next 109 = .ok (.istore_n 2, 1) := dk_61 (dk_at dksX0_next_4 16 rfl rfl)
theorem dX0_next_110 : decode cX0_next 110 = .ok (.iinc 4 1, 3) := dk_132 4 1 (dk_at dksX0_next_4 17 rfl rfl)
theorem dX0_next_113 : decode cX0_next 113 = .ok (.goto (-92), 3) := dk_167 255 164 (dk_at dksX0_next_4 20 rfl rfl)
theorem dX0_next_116 : decode cX0_next 116 = .ok (.iload_n 2, 1) := dk_28 (dk_at dksX0_next_4 23 rfl rfl)
theorem dX0_next_117 : decode cX0_next 117 = .ok (.ireturn, 1) := dk_172 (dk_at dksX0_next_5 0 rfl rfl)
abbrev cX0_hired : ByteArray := prog_1_method_44_code
def yX0_hired : MethodName := ⟨RX0, "hired", "(I)I"⟩
def dkwX0_hired_7 : List UInt8 := [21, 6, 62, 132, 4, 1, 167, 255, 110, 28, 172]
abbrev dktX0_hired_7 : List UInt8 := dkwX0_hired_7 ++ []
def dkwX0_hired_6 : List UInt8 := [167, 0, 4, 3, 54, 7, 21, 5, 27, 161, 0, 17, 21, 7, 154, 0, 6, 167, 0, 9, 21, 4, 61]
abbrev dktX0_hired_6 : List UInt8 := dkwX0_hired_6 ++ dktX0_hired_7
def dkwX0_hired_5 : List UInt8 := [161, 0, 21, 21, 6, 29, 160, 0, 19, 21, 4, 184, 0, 234, 28, 184, 0, 234, 162, 0, 7, 4]
abbrev dktX0_hired_5 : List UInt8 := dkwX0_hired_5 ++ dktX0_hired_6
def dkwX0_hired_4 : List UInt8 := [180, 0, 86, 21, 7, 46, 96, 54, 6, 132, 7, 1, 167, 255, 195, 28, 2, 159, 0, 27, 21, 6, 29]
abbrev dktX0_hired_4 : List UInt8 := dkwX0_hired_4 ++ dktX0_hired_5
def dkwX0_hired_3 : List UInt8 := [42, 42, 180, 0, 12, 180, 0, 77, 21, 7, 182, 0, 128, 96, 54, 5, 21, 6, 42, 180, 0, 12]
abbrev dktX0_hired_3 : List UInt8 := dkwX0_hired_3 ++ dktX0_hired_4
def dkwX0_hired_2 : List UInt8 := [180, 0, 12, 180, 0, 63, 162, 0, 55, 21, 4, 21, 7, 122, 4, 126, 154, 0, 6, 167, 0, 36, 21, 5]
abbrev dktX0_hired_2 : List UInt8 := dkwX0_hired_2 ++ dktX0_hired_3
def dkwX0_hired_1 : List UInt8 := [180, 0, 12, 180, 0, 63, 120, 162, 0, 138, 3, 54, 5, 3, 54, 6, 3, 54, 7, 21, 7, 42]
abbrev dktX0_hired_1 : List UInt8 := dkwX0_hired_1 ++ dktX0_hired_2
def dkwX0_hired_0 : List UInt8 := [27, 4, 17, 39, 15, 184, 0, 66, 154, 0, 5, 2, 172, 2, 61, 3, 62, 3, 54, 4, 21, 4, 4, 42]
abbrev dktX0_hired_0 : List UInt8 := dkwX0_hired_0 ++ dktX0_hired_1
theorem dksX0_hired_0 : cX0_hired.data.toList.drop 0 = dktX0_hired_0 := by decide +kernel
theorem dksX0_hired_1 : cX0_hired.data.toList.drop 24 = dktX0_hired_1 := dk_seg dksX0_hired_0 24 rfl rfl
theorem dksX0_hired_2 : cX0_hired.data.toList.drop 46 = dktX0_hired_2 := dk_seg dksX0_hired_1 22 rfl rfl
theorem dksX0_hired_3 : cX0_hired.data.toList.drop 70 = dktX0_hired_3 := dk_seg dksX0_hired_2 24 rfl rfl
theorem dksX0_hired_4 : cX0_hired.data.toList.drop 92 = dktX0_hired_4 := dk_seg dksX0_hired_3 22 rfl rfl
theorem dksX0_hired_5 : cX0_hired.data.toList.drop 115 = dktX0_hired_5 := dk_seg dksX0_hired_4 23 rfl rfl
theorem dksX0_hired_6 : cX0_hired.data.toList.drop 137 = dktX0_hired_6 := dk_seg dksX0_hired_5 22 rfl rfl
theorem dksX0_hired_7 : cX0_hired.data.toList.drop 160 = dktX0_hired_7 := dk_seg dksX0_hired_6 23 rfl rfl
theorem dX0_hired_0 : decode cX0_hired 0 = .ok (.iload_n 1, 1) := dk_27 (dk_at dksX0_hired_0 0 rfl rfl)
theorem dX0_hired_1 : decode cX0_hired 1 = .ok (.iconst 1, 1) := dk_4 (dk_at dksX0_hired_0 1 rfl rfl)
theorem dX0_hired_2 : decode cX0_hired 2 = .ok (.sipush 9999, 3) := dk_17 39 15 (dk_at dksX0_hired_0 2 rfl rfl)
theorem dX0_hired_5 : decode cX0_hired 5 = .ok (.invokestatic 66, 3) := dk_184 0 66 (dk_at dksX0_hired_0 5 rfl rfl)
theorem dX0_hired_8 : decode cX0_hired 8 = .ok (.ifCond .ne 5, 3) := dk_154 0 5 (dk_at dksX0_hired_0 8 rfl rfl)
theorem dX0_hired_11 : decode cX0_hired 11 = .ok (.iconst (-1), 1) := dk_2 (dk_at dksX0_hired_0 11 rfl rfl)
theorem dX0_hired_12 : decode cX0_hired 12 = .ok (.ireturn, 1) := dk_172 (dk_at dksX0_hired_0 12 rfl rfl)
theorem dX0_hired_13 : decode cX0_hired 13 = .ok (.iconst (-1), 1) := dk_2 (dk_at dksX0_hired_0 13 rfl rfl)
theorem dX0_hired_14 : decode cX0_hired 14 = .ok (.istore_n 2, 1) := dk_61 (dk_at dksX0_hired_0 14 rfl rfl)
theorem dX0_hired_15 : decode cX0_hired 15 = .ok (.iconst 0, 1) := dk_3 (dk_at dksX0_hired_0 15 rfl rfl)
theorem dX0_hired_16 : decode cX0_hired 16 = .ok (.istore_n 3, 1) := dk_62 (dk_at dksX0_hired_0 16 rfl rfl)
theorem dX0_hired_17 : decode cX0_hired 17 = .ok (.iconst 0, 1) := dk_3 (dk_at dksX0_hired_0 17 rfl rfl)
theorem dX0_hired_18 : decode cX0_hired 18 = .ok (.istore 4, 2) := dk_54 4 (dk_at dksX0_hired_0 18 rfl rfl)
theorem dX0_hired_20 : decode cX0_hired 20 = .ok (.iload 4, 2) := dk_21 4 (dk_at dksX0_hired_0 20 rfl rfl)
theorem dX0_hired_22 : decode cX0_hired 22 = .ok (.iconst 1, 1) := dk_4 (dk_at dksX0_hired_0 22 rfl rfl)
theorem dX0_hired_23 : decode cX0_hired 23 = .ok (.aload_n 0, 1) := dk_42 (dk_at dksX0_hired_0 23 rfl rfl)
theorem dX0_hired_24 : decode cX0_hired 24 = .ok (.getfield 12, 3) := dk_180 0 12 (dk_at dksX0_hired_1 0 rfl rfl)
theorem dX0_hired_27 : decode cX0_hired 27 = .ok (.getfield 63, 3) := dk_180 0 63 (dk_at dksX0_hired_1 3 rfl rfl)
theorem dX0_hired_30 : decode cX0_hired 30 = .ok (.ishl, 1) := dk_120 (dk_at dksX0_hired_1 6 rfl rfl)
theorem dX0_hired_31 : decode cX0_hired 31 = .ok (.if_icmp .ge 138, 3) := dk_162 0 138 (dk_at dksX0_hired_1 7 rfl rfl)
theorem dX0_hired_34 : decode cX0_hired 34 = .ok (.iconst 0, 1) := dk_3 (dk_at dksX0_hired_1 10 rfl rfl)
theorem dX0_hired_35 : decode cX0_hired 35 = .ok (.istore 5, 2) := dk_54 5 (dk_at dksX0_hired_1 11 rfl rfl)
theorem dX0_hired_37 : decode cX0_hired 37 = .ok (.iconst 0, 1) := dk_3 (dk_at dksX0_hired_1 13 rfl rfl)
theorem dX0_hired_38 : decode cX0_hired 38 = .ok (.istore 6, 2) := dk_54 6 (dk_at dksX0_hired_1 14 rfl rfl)
theorem dX0_hired_40 : decode cX0_hired 40 = .ok (.iconst 0, 1) := dk_3 (dk_at dksX0_hired_1 16 rfl rfl)
theorem dX0_hired_41 : decode cX0_hired 41 = .ok (.istore 7, 2) := dk_54 7 (dk_at dksX0_hired_1 17 rfl rfl)
theorem dX0_hired_43 : decode cX0_hired 43 = .ok (.iload 7, 2) := dk_21 7 (dk_at dksX0_hired_1 19 rfl rfl)
theorem dX0_hired_45 : decode cX0_hired 45 = .ok (.aload_n 0, 1) := dk_42 (dk_at dksX0_hired_1 21 rfl rfl)
theorem dX0_hired_46 : decode cX0_hired 46 = .ok (.getfield 12, 3) := dk_180 0 12 (dk_at dksX0_hired_2 0 rfl rfl)
theorem dX0_hired_49 : decode cX0_hired 49 = .ok (.getfield 63, 3) := dk_180 0 63 (dk_at dksX0_hired_2 3 rfl rfl)
theorem dX0_hired_52 : decode cX0_hired 52 = .ok (.if_icmp .ge 55, 3) := dk_162 0 55 (dk_at dksX0_hired_2 6 rfl rfl)
theorem dX0_hired_55 : decode cX0_hired 55 = .ok (.iload 4, 2) := dk_21 4 (dk_at dksX0_hired_2 9 rfl rfl)
theorem dX0_hired_57 : decode cX0_hired 57 = .ok (.iload 7, 2) := dk_21 7 (dk_at dksX0_hired_2 11 rfl rfl)
theorem dX0_hired_59 : decode cX0_hired 59 = .ok (.ishr, 1) := dk_122 (dk_at dksX0_hired_2 13 rfl rfl)
theorem dX0_hired_60 : decode cX0_hired 60 = .ok (.iconst 1, 1) := dk_4 (dk_at dksX0_hired_2 14 rfl rfl)
theorem dX0_hired_61 : decode cX0_hired 61 = .ok (.iand, 1) := dk_126 (dk_at dksX0_hired_2 15 rfl rfl)
theorem dX0_hired_62 : decode cX0_hired 62 = .ok (.ifCond .ne 6, 3) := dk_154 0 6 (dk_at dksX0_hired_2 16 rfl rfl)
theorem dX0_hired_65 : decode cX0_hired 65 = .ok (.goto 36, 3) := dk_167 0 36 (dk_at dksX0_hired_2 19 rfl rfl)
theorem dX0_hired_68 : decode cX0_hired 68 = .ok (.iload 5, 2) := dk_21 5 (dk_at dksX0_hired_2 22 rfl rfl)
theorem dX0_hired_70 : decode cX0_hired 70 = .ok (.aload_n 0, 1) := dk_42 (dk_at dksX0_hired_3 0 rfl rfl)
theorem dX0_hired_71 : decode cX0_hired 71 = .ok (.aload_n 0, 1) := dk_42 (dk_at dksX0_hired_3 1 rfl rfl)
theorem dX0_hired_72 : decode cX0_hired 72 = .ok (.getfield 12, 3) := dk_180 0 12 (dk_at dksX0_hired_3 2 rfl rfl)
theorem dX0_hired_75 : decode cX0_hired 75 = .ok (.getfield 77, 3) := dk_180 0 77 (dk_at dksX0_hired_3 5 rfl rfl)
theorem dX0_hired_78 : decode cX0_hired 78 = .ok (.iload 7, 2) := dk_21 7 (dk_at dksX0_hired_3 8 rfl rfl)
theorem dX0_hired_80 : decode cX0_hired 80 = .ok (.invokevirtual 128, 3) := dk_182 0 128 (dk_at dksX0_hired_3 10 rfl rfl)
theorem dX0_hired_83 : decode cX0_hired 83 = .ok (.iadd, 1) := dk_96 (dk_at dksX0_hired_3 13 rfl rfl)
theorem dX0_hired_84 : decode cX0_hired 84 = .ok (.istore 5, 2) := dk_54 5 (dk_at dksX0_hired_3 14 rfl rfl)
theorem dX0_hired_86 : decode cX0_hired 86 = .ok (.iload 6, 2) := dk_21 6 (dk_at dksX0_hired_3 16 rfl rfl)
theorem dX0_hired_88 : decode cX0_hired 88 = .ok (.aload_n 0, 1) := dk_42 (dk_at dksX0_hired_3 18 rfl rfl)
theorem dX0_hired_89 : decode cX0_hired 89 = .ok (.getfield 12, 3) := dk_180 0 12 (dk_at dksX0_hired_3 19 rfl rfl)
theorem dX0_hired_92 : decode cX0_hired 92 = .ok (.getfield 86, 3) := dk_180 0 86 (dk_at dksX0_hired_4 0 rfl rfl)
theorem dX0_hired_95 : decode cX0_hired 95 = .ok (.iload 7, 2) := dk_21 7 (dk_at dksX0_hired_4 3 rfl rfl)
theorem dX0_hired_97 : decode cX0_hired 97 = .ok (.iaload, 1) := dk_46 (dk_at dksX0_hired_4 5 rfl rfl)
theorem dX0_hired_98 : decode cX0_hired 98 = .ok (.iadd, 1) := dk_96 (dk_at dksX0_hired_4 6 rfl rfl)
theorem dX0_hired_99 : decode cX0_hired 99 = .ok (.istore 6, 2) := dk_54 6 (dk_at dksX0_hired_4 7 rfl rfl)
theorem dX0_hired_101 : decode cX0_hired 101 = .ok (.iinc 7 1, 3) := dk_132 7 1 (dk_at dksX0_hired_4 9 rfl rfl)
theorem dX0_hired_104 : decode cX0_hired 104 = .ok (.goto (-61), 3) := dk_167 255 195 (dk_at dksX0_hired_4 12 rfl rfl)
theorem dX0_hired_107 : decode cX0_hired 107 = .ok (.iload_n 2, 1) := dk_28 (dk_at dksX0_hired_4 15 rfl rfl)
theorem dX0_hired_108 : decode cX0_hired 108 = .ok (.iconst (-1), 1) := dk_2 (dk_at dksX0_hired_4 16 rfl rfl)
theorem dX0_hired_109 : decode cX0_hired 109 = .ok (.if_icmp .eq 27, 3) := dk_159 0 27 (dk_at dksX0_hired_4 17 rfl rfl)
theorem dX0_hired_112 : decode cX0_hired 112 = .ok (.iload 6, 2) := dk_21 6 (dk_at dksX0_hired_4 20 rfl rfl)
theorem dX0_hired_114 : decode cX0_hired 114 = .ok (.iload_n 3, 1) := dk_29 (dk_at dksX0_hired_4 22 rfl rfl)
theorem dX0_hired_115 : decode cX0_hired 115 = .ok (.if_icmp .lt 21, 3) := dk_161 0 21 (dk_at dksX0_hired_5 0 rfl rfl)
theorem dX0_hired_118 : decode cX0_hired 118 = .ok (.iload 6, 2) := dk_21 6 (dk_at dksX0_hired_5 3 rfl rfl)
theorem dX0_hired_120 : decode cX0_hired 120 = .ok (.iload_n 3, 1) := dk_29 (dk_at dksX0_hired_5 5 rfl rfl)
theorem dX0_hired_121 : decode cX0_hired 121 = .ok (.if_icmp .ne 19, 3) := dk_160 0 19 (dk_at dksX0_hired_5 6 rfl rfl)
theorem dX0_hired_124 : decode cX0_hired 124 = .ok (.iload 4, 2) := dk_21 4 (dk_at dksX0_hired_5 9 rfl rfl)
theorem dX0_hired_126 : decode cX0_hired 126 = .ok (.invokestatic 234, 3) := dk_184 0 234 (dk_at dksX0_hired_5 11 rfl rfl)
theorem dX0_hired_129 : decode cX0_hired 129 = .ok (.iload_n 2, 1) := dk_28 (dk_at dksX0_hired_5 14 rfl rfl)
theorem dX0_hired_130 : decode cX0_hired 130 = .ok (.invokestatic 234, 3) := dk_184 0 234 (dk_at dksX0_hired_5 15 rfl rfl)
theorem dX0_hired_133 : decode cX0_hired 133 = .ok (.if_icmp .ge 7, 3) := dk_162 0 7 (dk_at dksX0_hired_5 18 rfl rfl)
theorem dX0_hired_136 : decode cX0_hired 136 = .ok (.iconst 1, 1) := dk_4 (dk_at dksX0_hired_5 21 rfl rfl)
theorem dX0_hired_137 : decode cX0_hired 137 = .ok (.goto 4, 3) := dk_167 0 4 (dk_at dksX0_hired_6 0 rfl rfl)
theorem dX0_hired_140 : decode cX0_hired 140 = .ok (.iconst 0, 1) := dk_3 (dk_at dksX0_hired_6 3 rfl rfl)
theorem dX0_hired_141 : decode cX0_hired 141 = .ok (.istore 7, 2) := dk_54 7 (dk_at dksX0_hired_6 4 rfl rfl)
theorem dX0_hired_143 : decode cX0_hired 143 = .ok (.iload 5, 2) := dk_21 5 (dk_at dksX0_hired_6 6 rfl rfl)
theorem dX0_hired_145 : decode cX0_hired 145 = .ok (.iload_n 1, 1) := dk_27 (dk_at dksX0_hired_6 8 rfl rfl)
theorem dX0_hired_146 : decode cX0_hired 146 = .ok (.if_icmp .lt 17, 3) := dk_161 0 17 (dk_at dksX0_hired_6 9 rfl rfl)
theorem dX0_hired_149 : decode cX0_hired 149 = .ok (.iload 7, 2) := dk_21 7 (dk_at dksX0_hired_6 12 rfl rfl)
theorem dX0_hired_151 : decode cX0_hired 151 = .ok (.ifCond .ne 6, 3) := dk_154 0 6 (dk_at dksX0_hired_6 14 rfl rfl)
theorem dX0_hired_154 : decode cX0_hired 154 = .ok (.goto 9, 3) := dk_167 0 9 (dk_at dksX0_hired_6 17 rfl rfl)
theorem dX0_hired_157 : decode cX0_hired 157 = .ok (.iload 4, 2) := dk_21 4 (dk_at dksX0_hired_6 20 rfl rfl)
theorem dX0_hired_159 : decode cX0_hired 159 = .ok (.istore_n 2, 1) := dk_61 (dk_at dksX0_hired_6 22 rfl rfl)
theorem dX0_hired_160 : decode cX0_hired 160 = .ok (.iload 6, 2) := dk_21 6 (dk_at dksX0_hired_7 0 rfl rfl)
theorem dX0_hired_162 : decode cX0_hired 162 = .ok (.istore_n 3, 1) := dk_62 (dk_at dksX0_hired_7 2 rfl rfl)
theorem dX0_hired_163 : decode cX0_hired 163 = .ok (.iinc 4 1, 3) := dk_132 4 1 (dk_at dksX0_hired_7 3 rfl rfl)
theorem dX0_hired_166 : decode cX0_hired 166 = .ok (.goto (-146), 3) := dk_167 255 110 (dk_at dksX0_hired_7 6 rfl rfl)
theorem dX0_hired_169 : decode cX0_hired 169 = .ok (.iload_n 2, 1) := dk_28 (dk_at dksX0_hired_7 9 rfl rfl)
theorem dX0_hired_170 : decode cX0_hired 170 = .ok (.ireturn, 1) := dk_172 (dk_at dksX0_hired_7 10 rfl rfl)
abbrev cX0_contrary : ByteArray := prog_1_method_45_code
def yX0_contrary : MethodName := ⟨RX0, "contrary", "()I"⟩
def dkwX0_contrary_3 : List UInt8 := [159, 0, 10, 16, 30, 29, 104, 27, 96, 172, 132, 3, 1, 167, 255, 200, 132, 1, 1, 167, 255, 168, 2, 172]
abbrev dktX0_contrary_3 : List UInt8 := dkwX0_contrary_3 ++ []
def dkwX0_contrary_2 : List UInt8 := [44, 3, 46, 160, 0, 30, 25, 4, 4, 46, 44, 4, 46, 160, 0, 20, 25, 4, 5, 46, 44, 5, 46]
abbrev dktX0_contrary_2 : List UInt8 := dkwX0_contrary_2 ++ dktX0_contrary_3
def dkwX0_contrary_1 : List UInt8 := [50, 77, 3, 62, 29, 27, 162, 0, 57, 42, 180, 0, 12, 180, 0, 166, 29, 50, 58, 4, 25, 4, 3, 46]
abbrev dktX0_contrary_1 : List UInt8 := dkwX0_contrary_1 ++ dktX0_contrary_2
def dkwX0_contrary_0 : List UInt8 := [3, 60, 27, 42, 180, 0, 12, 180, 0, 77, 16, 24, 46, 162, 0, 80, 42, 180, 0, 12, 180, 0, 166, 27]
abbrev dktX0_contrary_0 : List UInt8 := dkwX0_contrary_0 ++ dktX0_contrary_1
theorem dksX0_contrary_0 : cX0_contrary.data.toList.drop 0 = dktX0_contrary_0 := by decide +kernel
theorem dksX0_contrary_1 : cX0_contrary.data.toList.drop 24 = dktX0_contrary_1 := dk_seg dksX0_contrary_0 24 rfl rfl
theorem dksX0_contrary_2 : cX0_contrary.data.toList.drop 48 = dktX0_contrary_2 := dk_seg dksX0_contrary_1 24 rfl rfl
theorem dksX0_contrary_3 : cX0_contrary.data.toList.drop 71 = dktX0_contrary_3 := dk_seg dksX0_contrary_2 23 rfl rfl
theorem dX0_contrary_0 : decode cX0_contrary 0 = .ok (.iconst 0, 1) := dk_3 (dk_at dksX0_contrary_0 0 rfl rfl)
theorem dX0_contrary_1 : decode cX0_contrary 1 = .ok (.istore_n 1, 1) := dk_60 (dk_at dksX0_contrary_0 1 rfl rfl)
theorem dX0_contrary_2 : decode cX0_contrary 2 = .ok (.iload_n 1, 1) := dk_27 (dk_at dksX0_contrary_0 2 rfl rfl)
theorem dX0_contrary_3 : decode cX0_contrary 3 = .ok (.aload_n 0, 1) := dk_42 (dk_at dksX0_contrary_0 3 rfl rfl)
theorem dX0_contrary_4 : decode cX0_contrary 4 = .ok (.getfield 12, 3) := dk_180 0 12 (dk_at dksX0_contrary_0 4 rfl rfl)
theorem dX0_contrary_7 : decode cX0_contrary 7 = .ok (.getfield 77, 3) := dk_180 0 77 (dk_at dksX0_contrary_0 7 rfl rfl)
theorem dX0_contrary_10 : decode cX0_contrary 10 = .ok (.bipush 24, 2) := dk_16 24 (dk_at dksX0_contrary_0 10 rfl rfl)
theorem dX0_contrary_12 : decode cX0_contrary 12 = .ok (.iaload, 1) := dk_46 (dk_at dksX0_contrary_0 12 rfl rfl)
theorem dX0_contrary_13 : decode cX0_contrary 13 = .ok (.if_icmp .ge 80, 3) := dk_162 0 80 (dk_at dksX0_contrary_0 13 rfl rfl)
theorem dX0_contrary_16 : decode cX0_contrary 16 = .ok (.aload_n 0, 1) := dk_42 (dk_at dksX0_contrary_0 16 rfl rfl)
theorem dX0_contrary_17 : decode cX0_contrary 17 = .ok (.getfield 12, 3) := dk_180 0 12 (dk_at dksX0_contrary_0 17 rfl rfl)
theorem dX0_contrary_20 : decode cX0_contrary 20 = .ok (.getfield 166, 3) := dk_180 0 166 (dk_at dksX0_contrary_0 20 rfl rfl)
theorem dX0_contrary_23 : decode cX0_contrary 23 = .ok (.iload_n 1, 1) := dk_27 (dk_at dksX0_contrary_0 23 rfl rfl)
theorem dX0_contrary_24 : decode cX0_contrary 24 = .ok (.aaload, 1) := dk_50 (dk_at dksX0_contrary_1 0 rfl rfl)
theorem dX0_contrary_25 : decode cX0_contrary 25 = .ok (.astore_n 2, 1) := dk_77 (dk_at dksX0_contrary_1 1 rfl rfl)
theorem dX0_contrary_26 : decode cX0_contrary 26 = .ok (.iconst 0, 1) := dk_3 (dk_at dksX0_contrary_1 2 rfl rfl)
theorem dX0_contrary_27 : decode cX0_contrary 27 = .ok (.istore_n 3, 1) := dk_62 (dk_at dksX0_contrary_1 3 rfl rfl)
theorem dX0_contrary_28 : decode cX0_contrary 28 = .ok (.iload_n 3, 1) := dk_29 (dk_at dksX0_contrary_1 4 rfl rfl)
theorem dX0_contrary_29 : decode cX0_contrary 29 = .ok (.iload_n 1, 1) := dk_27 (dk_at dksX0_contrary_1 5 rfl rfl)
theorem dX0_contrary_30 : decode cX0_contrary 30 = .ok (.if_icmp .ge 57, 3) := dk_162 0 57 (dk_at dksX0_contrary_1 6 rfl rfl)
theorem dX0_contrary_33 : decode cX0_contrary 33 = .ok (.aload_n 0, 1) := dk_42 (dk_at dksX0_contrary_1 9 rfl rfl)
theorem dX0_contrary_34 : decode cX0_contrary 34 = .ok (.getfield 12, 3) := dk_180 0 12 (dk_at dksX0_contrary_1 10 rfl rfl)
theorem dX0_contrary_37 : decode cX0_contrary 37 = .ok (.getfield 166, 3) := dk_180 0 166 (dk_at dksX0_contrary_1 13 rfl rfl)
theorem dX0_contrary_40 : decode cX0_contrary 40 = .ok (.iload_n 3, 1) := dk_29 (dk_at dksX0_contrary_1 16 rfl rfl)
theorem dX0_contrary_41 : decode cX0_contrary 41 = .ok (.aaload, 1) := dk_50 (dk_at dksX0_contrary_1 17 rfl rfl)
theorem dX0_contrary_42 : decode cX0_contrary 42 = .ok (.astore 4, 2) := dk_58 4 (dk_at dksX0_contrary_1 18 rfl rfl)
theorem dX0_contrary_44 : decode cX0_contrary 44 = .ok (.aload 4, 2) := dk_25 4 (dk_at dksX0_contrary_1 20 rfl rfl)
theorem dX0_contrary_46 : decode cX0_contrary 46 = .ok (.iconst 0, 1) := dk_3 (dk_at dksX0_contrary_1 22 rfl rfl)
theorem dX0_contrary_47 : decode cX0_contrary 47 = .ok (.iaload, 1) := dk_46 (dk_at dksX0_contrary_1 23 rfl rfl)
theorem dX0_contrary_48 : decode cX0_contrary 48 = .ok (.aload_n 2, 1) := dk_44 (dk_at dksX0_contrary_2 0 rfl rfl)
theorem dX0_contrary_49 : decode cX0_contrary 49 = .ok (.iconst 0, 1) := dk_3 (dk_at dksX0_contrary_2 1 rfl rfl)
theorem dX0_contrary_50 : decode cX0_contrary 50 = .ok (.iaload, 1) := dk_46 (dk_at dksX0_contrary_2 2 rfl rfl)
theorem dX0_contrary_51 : decode cX0_contrary 51 = .ok (.if_icmp .ne 30, 3) := dk_160 0 30 (dk_at dksX0_contrary_2 3 rfl rfl)
theorem dX0_contrary_54 : decode cX0_contrary 54 = .ok (.aload 4, 2) := dk_25 4 (dk_at dksX0_contrary_2 6 rfl rfl)
theorem dX0_contrary_56 : decode cX0_contrary 56 = .ok (.iconst 1, 1) := dk_4 (dk_at dksX0_contrary_2 8 rfl rfl)
theorem dX0_contrary_57 : decode cX0_contrary 57 = .ok (.iaload, 1) := dk_46 (dk_at dksX0_contrary_2 9 rfl rfl)
theorem dX0_contrary_58 : decode cX0_contrary 58 = .ok (.aload_n 2, 1) := dk_44 (dk_at dksX0_contrary_2 10 rfl rfl)
theorem dX0_contrary_59 : decode cX0_contrary 59 = .ok (.iconst 1, 1) := dk_4 (dk_at dksX0_contrary_2 11 rfl rfl)
theorem dX0_contrary_60 : decode cX0_contrary 60 = .ok (.iaload, 1) := dk_46 (dk_at dksX0_contrary_2 12 rfl rfl)
theorem dX0_contrary_61 : decode cX0_contrary 61 = .ok (.if_icmp .ne 20, 3) := dk_160 0 20 (dk_at dksX0_contrary_2 13 rfl rfl)
theorem dX0_contrary_64 : decode cX0_contrary 64 = .ok (.aload 4, 2) := dk_25 4 (dk_at dksX0_contrary_2 16 rfl rfl)
theorem dX0_contrary_66 : decode cX0_contrary 66 = .ok (.iconst 2, 1) := dk_5 (dk_at dksX0_contrary_2 18 rfl rfl)
theorem dX0_contrary_67 : decode cX0_contrary 67 = .ok (.iaload, 1) := dk_46 (dk_at dksX0_contrary_2 19 rfl rfl)
theorem dX0_contrary_68 : decode cX0_contrary 68 = .ok (.aload_n 2, 1) := dk_44 (dk_at dksX0_contrary_2 20 rfl rfl)
theorem dX0_contrary_69 : decode cX0_contrary 69 = .ok (.iconst 2, 1) := dk_5 (dk_at dksX0_contrary_2 21 rfl rfl)
theorem dX0_contrary_70 : decode cX0_contrary 70 = .ok (.iaload, 1) := dk_46 (dk_at dksX0_contrary_2 22 rfl rfl)
theorem dX0_contrary_71 : decode cX0_contrary 71 = .ok (.if_icmp .eq 10, 3) := dk_159 0 10 (dk_at dksX0_contrary_3 0 rfl rfl)
theorem dX0_contrary_74 : decode cX0_contrary 74 = .ok (.bipush 30, 2) := dk_16 30 (dk_at dksX0_contrary_3 3 rfl rfl)
theorem dX0_contrary_76 : decode cX0_contrary 76 = .ok (.iload_n 3, 1) := dk_29 (dk_at dksX0_contrary_3 5 rfl rfl)
theorem dX0_contrary_77 : decode cX0_contrary 77 = .ok (.imul, 1) := dk_104 (dk_at dksX0_contrary_3 6 rfl rfl)
theorem dX0_contrary_78 : decode cX0_contrary 78 = .ok (.iload_n 1, 1) := dk_27 (dk_at dksX0_contrary_3 7 rfl rfl)
theorem dX0_contrary_79 : decode cX0_contrary 79 = .ok (.iadd, 1) := dk_96 (dk_at dksX0_contrary_3 8 rfl rfl)
theorem dX0_contrary_80 : decode cX0_contrary 80 = .ok (.ireturn, 1) := dk_172 (dk_at dksX0_contrary_3 9 rfl rfl)
theorem dX0_contrary_81 : decode cX0_contrary 81 = .ok (.iinc 3 1, 3) := dk_132 3 1 (dk_at dksX0_contrary_3 10 rfl rfl)
theorem dX0_contrary_84 : decode cX0_contrary 84 = .ok (.goto (-56), 3) := dk_167 255 200 (dk_at dksX0_contrary_3 13 rfl rfl)
theorem dX0_contrary_87 : decode cX0_contrary 87 = .ok (.iinc 1 1, 3) := dk_132 1 1 (dk_at dksX0_contrary_3 16 rfl rfl)
theorem dX0_contrary_90 : decode cX0_contrary 90 = .ok (.goto (-88), 3) := dk_167 255 168 (dk_at dksX0_contrary_3 19 rfl rfl)
theorem dX0_contrary_93 : decode cX0_contrary 93 = .ok (.iconst (-1), 1) := dk_2 (dk_at dksX0_contrary_3 22 rfl rfl)
theorem dX0_contrary_94 : decode cX0_contrary 94 = .ok (.ireturn, 1) := dk_172 (dk_at dksX0_contrary_3 23 rfl rfl)
abbrev cX0_odds : ByteArray := prog_1_method_48_code
def yX0_odds : MethodName := ⟨RX0, "odds", "(IIZ)J"⟩
def dkwX0_odds_3 : List UInt8 := [173]
abbrev dktX0_odds_3 : List UInt8 := dkwX0_odds_3 ++ []
def dkwX0_odds_2 : List UInt8 := [28, 104, 121, 55, 6, 29, 153, 0, 8, 22, 6, 167, 0, 5, 22, 4, 22, 4, 22, 6, 184, 1, 17, 109]
abbrev dktX0_odds_2 : List UInt8 := dkwX0_odds_2 ++ dktX0_odds_3
def dkwX0_odds_1 : List UInt8 := [20, 1, 24, 173, 42, 180, 0, 12, 180, 0, 77, 7, 184, 1, 26, 27, 28, 184, 1, 20, 55, 4, 10, 5]
abbrev dktX0_odds_1 : List UInt8 := dkwX0_odds_1 ++ dktX0_odds_2
def dkwX0_odds_0 : List UInt8 := [27, 17, 216, 241, 17, 39, 15, 184, 0, 66, 153, 0, 13, 28, 3, 16, 6, 184, 0, 66, 154, 0, 7]
abbrev dktX0_odds_0 : List UInt8 := dkwX0_odds_0 ++ dktX0_odds_1
theorem dksX0_odds_0 : cX0_odds.data.toList.drop 0 = dktX0_odds_0 := by decide +kernel
theorem dksX0_odds_1 : cX0_odds.data.toList.drop 23 = dktX0_odds_1 := dk_seg dksX0_odds_0 23 rfl rfl
theorem dksX0_odds_2 : cX0_odds.data.toList.drop 47 = dktX0_odds_2 := dk_seg dksX0_odds_1 24 rfl rfl
theorem dksX0_odds_3 : cX0_odds.data.toList.drop 71 = dktX0_odds_3 := dk_seg dksX0_odds_2 24 rfl rfl
theorem dX0_odds_0 : decode cX0_odds 0 = .ok (.iload_n 1, 1) := dk_27 (dk_at dksX0_odds_0 0 rfl rfl)
theorem dX0_odds_1 : decode cX0_odds 1 = .ok (.sipush (-9999), 3) := dk_17 216 241 (dk_at dksX0_odds_0 1 rfl rfl)
theorem dX0_odds_4 : decode cX0_odds 4 = .ok (.sipush 9999, 3) := dk_17 39 15 (dk_at dksX0_odds_0 4 rfl rfl)
theorem dX0_odds_7 : decode cX0_odds 7 = .ok (.invokestatic 66, 3) := dk_184 0 66 (dk_at dksX0_odds_0 7 rfl rfl)
theorem dX0_odds_10 : decode cX0_odds 10 = .ok (.ifCond .eq 13, 3) := dk_153 0 13 (dk_at dksX0_odds_0 10 rfl rfl)
theorem dX0_odds_13 : decode cX0_odds 13 = .ok (.iload_n 2, 1) := dk_28 (dk_at dksX0_odds_0 13 rfl rfl)
theorem dX0_odds_14 : decode cX0_odds 14 = .ok (.iconst 0, 1) := dk_3 (dk_at dksX0_odds_0 14 rfl rfl)
theorem dX0_odds_15 : decode cX0_odds 15 = .ok (.bipush 6, 2) := dk_16 6 (dk_at dksX0_odds_0 15 rfl rfl)
theorem dX0_odds_17 : decode cX0_odds 17 = .ok (.invokestatic 66, 3) := dk_184 0 66 (dk_at dksX0_odds_0 17 rfl rfl)
theorem dX0_odds_20 : decode cX0_odds 20 = .ok (.ifCond .ne 7, 3) := dk_154 0 7 (dk_at dksX0_odds_0 20 rfl rfl)
theorem dX0_odds_23 : decode cX0_odds 23 = .ok (.ldc2_w 280, 3) := dk_20 1 24 (dk_at dksX0_odds_1 0 rfl rfl)
theorem dX0_odds_26 : decode cX0_odds 26 = .ok (.lreturn, 1) := dk_173 (dk_at dksX0_odds_1 3 rfl rfl)
theorem dX0_odds_27 : decode cX0_odds 27 = .ok (.aload_n 0, 1) := dk_42 (dk_at dksX0_odds_1 4 rfl rfl)
theorem dX0_odds_28 : decode cX0_odds 28 = .ok (.getfield 12, 3) := dk_180 0 12 (dk_at dksX0_odds_1 5 rfl rfl)
theorem dX0_odds_31 : decode cX0_odds 31 = .ok (.getfield 77, 3) := dk_180 0 77 (dk_at dksX0_odds_1 8 rfl rfl)
theorem dX0_odds_34 : decode cX0_odds 34 = .ok (.iconst 4, 1) := dk_7 (dk_at dksX0_odds_1 11 rfl rfl)
theorem dX0_odds_35 : decode cX0_odds 35 = .ok (.invokestatic 282, 3) := dk_184 1 26 (dk_at dksX0_odds_1 12 rfl rfl)
theorem dX0_odds_38 : decode cX0_odds 38 = .ok (.iload_n 1, 1) := dk_27 (dk_at dksX0_odds_1 15 rfl rfl)
theorem dX0_odds_39 : decode cX0_odds 39 = .ok (.iload_n 2, 1) := dk_28 (dk_at dksX0_odds_1 16 rfl rfl)
theorem dX0_odds_40 : decode cX0_odds 40 = .ok (.invokestatic 276, 3) := dk_184 1 20 (dk_at dksX0_odds_1 17 rfl rfl)
theorem dX0_odds_43 : decode cX0_odds 43 = .ok (.lstore 4, 2) := dk_55 4 (dk_at dksX0_odds_1 20 rfl rfl)
theorem dX0_odds_45 : decode cX0_odds 45 = .ok (.lconst 1, 1) := dk_10 (dk_at dksX0_odds_1 22 rfl rfl)
theorem dX0_odds_46 : decode cX0_odds 46 = .ok (.iconst 2, 1) := dk_5 (dk_at dksX0_odds_1 23 rfl rfl)
theorem dX0_odds_47 : decode cX0_odds 47 = .ok (.iload_n 2, 1) := dk_28 (dk_at dksX0_odds_2 0 rfl rfl)
theorem dX0_odds_48 : decode cX0_odds 48 = .ok (.imul, 1) := dk_104 (dk_at dksX0_odds_2 1 rfl rfl)
theorem dX0_odds_49 : decode cX0_odds 49 = .ok (.lshl, 1) := dk_121 (dk_at dksX0_odds_2 2 rfl rfl)
theorem dX0_odds_50 : decode cX0_odds 50 = .ok (.lstore 6, 2) := dk_55 6 (dk_at dksX0_odds_2 3 rfl rfl)
theorem dX0_odds_52 : decode cX0_odds 52 = .ok (.iload_n 3, 1) := dk_29 (dk_at dksX0_odds_2 5 rfl rfl)
theorem dX0_odds_53 : decode cX0_odds 53 = .ok (.ifCond .eq 8, 3) := dk_153 0 8 (dk_at dksX0_odds_2 6 rfl rfl)
theorem dX0_odds_56 : decode cX0_odds 56 = .ok (.lload 6, 2) := dk_22 6 (dk_at dksX0_odds_2 9 rfl rfl)
theorem dX0_odds_58 : decode cX0_odds 58 = .ok (.goto 5, 3) := dk_167 0 5 (dk_at dksX0_odds_2 11 rfl rfl)
theorem dX0_odds_61 : decode cX0_odds 61 = .ok (.lload 4, 2) := dk_22 4 (dk_at dksX0_odds_2 14 rfl rfl)
theorem dX0_odds_63 : decode cX0_odds 63 = .ok (.lload 4, 2) := dk_22 4 (dk_at dksX0_odds_2 16 rfl rfl)
theorem dX0_odds_65 : decode cX0_odds 65 = .ok (.lload 6, 2) := dk_22 6 (dk_at dksX0_odds_2 18 rfl rfl)
theorem dX0_odds_67 : decode cX0_odds 67 = .ok (.invokestatic 273, 3) := dk_184 1 17 (dk_at dksX0_odds_2 20 rfl rfl)
theorem dX0_odds_70 : decode cX0_odds 70 = .ok (.ldiv, 1) := dk_109 (dk_at dksX0_odds_2 23 rfl rfl)
theorem dX0_odds_71 : decode cX0_odds 71 = .ok (.lreturn, 1) := dk_173 (dk_at dksX0_odds_3 0 rfl rfl)
abbrev cX0_ways : ByteArray := prog_1_method_47_code
def yX0_ways : MethodName := ⟨RX0, "ways", "([III)J"⟩
def dkwX0_ways_4 : List UInt8 := [167, 255, 196, 33, 173]
abbrev dktX0_ways_4 : List UInt8 := dkwX0_ways_4 ++ []
def dkwX0_ways_3 : List UInt8 := [100, 184, 1, 20, 97, 66, 21, 6, 153, 0, 11, 42, 21, 5, 92, 46, 4, 96, 79, 132, 5, 1]
abbrev dktX0_ways_3 : List UInt8 := dkwX0_ways_3 ++ dktX0_ways_4
def dkwX0_ways_2 : List UInt8 := [167, 0, 4, 3, 54, 6, 21, 6, 153, 0, 11, 42, 21, 5, 92, 46, 4, 100, 79, 33, 42, 27, 28, 4]
abbrev dktX0_ways_2 : List UInt8 := dkwX0_ways_2 ++ dktX0_ways_3
def dkwX0_ways_1 : List UInt8 := [167, 0, 4, 9, 173, 9, 66, 3, 54, 5, 21, 5, 7, 162, 0, 60, 42, 21, 5, 46, 158, 0, 7, 4]
abbrev dktX0_ways_1 : List UInt8 := dkwX0_ways_1 ++ dktX0_ways_2
def dkwX0_ways_0 : List UInt8 := [28, 154, 0, 28, 42, 3, 46, 42, 4, 46, 96, 42, 5, 46, 100, 42, 6, 46, 100, 27, 160, 0, 7, 10]
abbrev dktX0_ways_0 : List UInt8 := dkwX0_ways_0 ++ dktX0_ways_1
theorem dksX0_ways_0 : cX0_ways.data.toList.drop 0 = dktX0_ways_0 := by decide +kernel
theorem dksX0_ways_1 : cX0_ways.data.toList.drop 24 = dktX0_ways_1 := dk_seg dksX0_ways_0 24 rfl rfl
theorem dksX0_ways_2 : cX0_ways.data.toList.drop 48 = dktX0_ways_2 := dk_seg dksX0_ways_1 24 rfl rfl
theorem dksX0_ways_3 : cX0_ways.data.toList.drop 72 = dktX0_ways_3 := dk_seg dksX0_ways_2 24 rfl rfl
theorem dksX0_ways_4 : cX0_ways.data.toList.drop 94 = dktX0_ways_4 := dk_seg dksX0_ways_3 22 rfl rfl
theorem dX0_ways_0 : decode cX0_ways 0 = .ok (.iload_n 2, 1) := dk_28 (dk_at dksX0_ways_0 0 rfl rfl)
theorem dX0_ways_1 : decode cX0_ways 1 = .ok (.ifCond .ne 28, 3) := dk_154 0 28 (dk_at dksX0_ways_0 1 rfl rfl)
theorem dX0_ways_4 : decode cX0_ways 4 = .ok (.aload_n 0, 1) := dk_42 (dk_at dksX0_ways_0 4 rfl rfl)
theorem dX0_ways_5 : decode cX0_ways 5 = .ok (.iconst 0, 1) := dk_3 (dk_at dksX0_ways_0 5 rfl rfl)
theorem dX0_ways_6 : decode cX0_ways 6 = .ok (.iaload, 1) := dk_46 (dk_at dksX0_ways_0 6 rfl rfl)
theorem dX0_ways_7 : decode cX0_ways 7 = .ok (.aload_n 0, 1) := dk_42 (dk_at dksX0_ways_0 7 rfl rfl)
theorem dX0_ways_8 : decode cX0_ways 8 = .ok (.iconst 1, 1) := dk_4 (dk_at dksX0_ways_0 8 rfl rfl)
theorem dX0_ways_9 : decode cX0_ways 9 = .ok (.iaload, 1) := dk_46 (dk_at dksX0_ways_0 9 rfl rfl)
theorem dX0_ways_10 : decode cX0_ways 10 = .ok (.iadd, 1) := dk_96 (dk_at dksX0_ways_0 10 rfl rfl)
theorem dX0_ways_11 : decode cX0_ways 11 = .ok (.aload_n 0, 1) := dk_42 (dk_at dksX0_ways_0 11 rfl rfl)
theorem dX0_ways_12 : decode cX0_ways 12 = .ok (.iconst 2, 1) := dk_5 (dk_at dksX0_ways_0 12 rfl rfl)
theorem dX0_ways_13 : decode cX0_ways 13 = .ok (.iaload, 1) := dk_46 (dk_at dksX0_ways_0 13 rfl rfl)
theorem dX0_ways_14 : decode cX0_ways 14 = .ok (.isub, 1) := dk_100 (dk_at dksX0_ways_0 14 rfl rfl)
theorem dX0_ways_15 : decode cX0_ways 15 = .ok (.aload_n 0, 1) := dk_42 (dk_at dksX0_ways_0 15 rfl rfl)
theorem dX0_ways_16 : decode cX0_ways 16 = .ok (.iconst 3, 1) := dk_6 (dk_at dksX0_ways_0 16 rfl rfl)
theorem dX0_ways_17 : decode cX0_ways 17 = .ok (.iaload, 1) := dk_46 (dk_at dksX0_ways_0 17 rfl rfl)
theorem dX0_ways_18 : decode cX0_ways 18 = .ok (.isub, 1) := dk_100 (dk_at dksX0_ways_0 18 rfl rfl)
theorem dX0_ways_19 : decode cX0_ways 19 = .ok (.iload_n 1, 1) := dk_27 (dk_at dksX0_ways_0 19 rfl rfl)
theorem dX0_ways_20 : decode cX0_ways 20 = .ok (.if_icmp .ne 7, 3) := dk_160 0 7 (dk_at dksX0_ways_0 20 rfl rfl)
theorem dX0_ways_23 : decode cX0_ways 23 = .ok (.lconst 1, 1) := dk_10 (dk_at dksX0_ways_0 23 rfl rfl)
theorem dX0_ways_24 : decode cX0_ways 24 = .ok (.goto 4, 3) := dk_167 0 4 (dk_at dksX0_ways_1 0 rfl rfl)
theorem dX0_ways_27 : decode cX0_ways 27 = .ok (.lconst 0, 1) := dk_9 (dk_at dksX0_ways_1 3 rfl rfl)
theorem dX0_ways_28 : decode cX0_ways 28 = .ok (.lreturn, 1) := dk_173 (dk_at dksX0_ways_1 4 rfl rfl)
theorem dX0_ways_29 : decode cX0_ways 29 = .ok (.lconst 0, 1) := dk_9 (dk_at dksX0_ways_1 5 rfl rfl)
theorem dX0_ways_30 : decode cX0_ways 30 = .ok (.lstore_n 3, 1) := dk_66 (dk_at dksX0_ways_1 6 rfl rfl)
theorem dX0_ways_31 : decode cX0_ways 31 = .ok (.iconst 0, 1) := dk_3 (dk_at dksX0_ways_1 7 rfl rfl)
theorem dX0_ways_32 : decode cX0_ways 32 = .ok (.istore 5, 2) := dk_54 5 (dk_at dksX0_ways_1 8 rfl rfl)
theorem dX0_ways_34 : decode cX0_ways 34 = .ok (.iload 5, 2) := dk_21 5 (dk_at dksX0_ways_1 10 rfl rfl)
theorem dX0_ways_36 : decode cX0_ways 36 = .ok (.iconst 4, 1) := dk_7 (dk_at dksX0_ways_1 12 rfl rfl)
theorem dX0_ways_37 : decode cX0_ways 37 = .ok (.if_icmp .ge 60, 3) := dk_162 0 60 (dk_at dksX0_ways_1 13 rfl rfl)
theorem dX0_ways_40 : decode cX0_ways 40 = .ok (.aload_n 0, 1) := dk_42 (dk_at dksX0_ways_1 16 rfl rfl)
theorem dX0_ways_41 : decode cX0_ways 41 = .ok (.iload 5, 2) := dk_21 5 (dk_at dksX0_ways_1 17 rfl rfl)
theorem dX0_ways_43 : decode cX0_ways 43 = .ok (.iaload, 1) := dk_46 (dk_at dksX0_ways_1 19 rfl rfl)
theorem dX0_ways_44 : decode cX0_ways 44 = .ok (.ifCond .le 7, 3) := dk_158 0 7 (dk_at dksX0_ways_1 20 rfl rfl)
theorem dX0_ways_47 : decode cX0_ways 47 = .ok (.iconst 1, 1) := dk_4 (dk_at dksX0_ways_1 23 rfl rfl)
theorem dX0_ways_48 : decode cX0_ways 48 = .ok (.goto 4, 3) := dk_167 0 4 (dk_at dksX0_ways_2 0 rfl rfl)
theorem dX0_ways_51 : decode cX0_ways 51 = .ok (.iconst 0, 1) := dk_3 (dk_at dksX0_ways_2 3 rfl rfl)
theorem dX0_ways_52 : decode cX0_ways 52 = .ok (.istore 6, 2) := dk_54 6 (dk_at dksX0_ways_2 4 rfl rfl)
theorem dX0_ways_54 : decode cX0_ways 54 = .ok (.iload 6, 2) := dk_21 6 (dk_at dksX0_ways_2 6 rfl rfl)
theorem dX0_ways_56 : decode cX0_ways 56 = .ok (.ifCond .eq 11, 3) := dk_153 0 11 (dk_at dksX0_ways_2 8 rfl rfl)
theorem dX0_ways_59 : decode cX0_ways 59 = .ok (.aload_n 0, 1) := dk_42 (dk_at dksX0_ways_2 11 rfl rfl)
theorem dX0_ways_60 : decode cX0_ways 60 = .ok (.iload 5, 2) := dk_21 5 (dk_at dksX0_ways_2 12 rfl rfl)
theorem dX0_ways_62 : decode cX0_ways 62 = .ok (.dup2, 1) := dk_92 (dk_at dksX0_ways_2 14 rfl rfl)
theorem dX0_ways_63 : decode cX0_ways 63 = .ok (.iaload, 1) := dk_46 (dk_at dksX0_ways_2 15 rfl rfl)
theorem dX0_ways_64 : decode cX0_ways 64 = .ok (.iconst 1, 1) := dk_4 (dk_at dksX0_ways_2 16 rfl rfl)
theorem dX0_ways_65 : decode cX0_ways 65 = .ok (.isub, 1) := dk_100 (dk_at dksX0_ways_2 17 rfl rfl)
theorem dX0_ways_66 : decode cX0_ways 66 = .ok (.iastore, 1) := dk_79 (dk_at dksX0_ways_2 18 rfl rfl)
theorem dX0_ways_67 : decode cX0_ways 67 = .ok (.lload_n 3, 1) := dk_33 (dk_at dksX0_ways_2 19 rfl rfl)
theorem dX0_ways_68 : decode cX0_ways 68 = .ok (.aload_n 0, 1) := dk_42 (dk_at dksX0_ways_2 20 rfl rfl)
theorem dX0_ways_69 : decode cX0_ways 69 = .ok (.iload_n 1, 1) := dk_27 (dk_at dksX0_ways_2 21 rfl rfl)
theorem dX0_ways_70 : decode cX0_ways 70 = .ok (.iload_n 2, 1) := dk_28 (dk_at dksX0_ways_2 22 rfl rfl)
theorem dX0_ways_71 : decode cX0_ways 71 = .ok (.iconst 1, 1) := dk_4 (dk_at dksX0_ways_2 23 rfl rfl)
theorem dX0_ways_72 : decode cX0_ways 72 = .ok (.isub, 1) := dk_100 (dk_at dksX0_ways_3 0 rfl rfl)
theorem dX0_ways_73 : decode cX0_ways 73 = .ok (.invokestatic 276, 3) := dk_184 1 20 (dk_at dksX0_ways_3 1 rfl rfl)
theorem dX0_ways_76 : decode cX0_ways 76 = .ok (.ladd, 1) := dk_97 (dk_at dksX0_ways_3 4 rfl rfl)
theorem dX0_ways_77 : decode cX0_ways 77 = .ok (.lstore_n 3, 1) := dk_66 (dk_at dksX0_ways_3 5 rfl rfl)
theorem dX0_ways_78 : decode cX0_ways 78 = .ok (.iload 6, 2) := dk_21 6 (dk_at dksX0_ways_3 6 rfl rfl)
theorem dX0_ways_80 : decode cX0_ways 80 = .ok (.ifCond .eq 11, 3) := dk_153 0 11 (dk_at dksX0_ways_3 8 rfl rfl)
theorem dX0_ways_83 : decode cX0_ways 83 = .ok (.aload_n 0, 1) := dk_42 (dk_at dksX0_ways_3 11 rfl rfl)
theorem dX0_ways_84 : decode cX0_ways 84 = .ok (.iload 5, 2) := dk_21 5 (dk_at dksX0_ways_3 12 rfl rfl)
theorem dX0_ways_86 : decode cX0_ways 86 = .ok (.dup2, 1) := dk_92 (dk_at dksX0_ways_3 14 rfl rfl)
theorem dX0_ways_87 : decode cX0_ways 87 = .ok (.iaload, 1) := dk_46 (dk_at dksX0_ways_3 15 rfl rfl)
theorem dX0_ways_88 : decode cX0_ways 88 = .ok (.iconst 1, 1) := dk_4 (dk_at dksX0_ways_3 16 rfl rfl)
theorem dX0_ways_89 : decode cX0_ways 89 = .ok (.iadd, 1) := dk_96 (dk_at dksX0_ways_3 17 rfl rfl)
theorem dX0_ways_90 : decode cX0_ways 90 = .ok (.iastore, 1) := dk_79 (dk_at dksX0_ways_3 18 rfl rfl)
theorem dX0_ways_91 : decode cX0_ways 91 = .ok (.iinc 5 1, 3) := dk_132 5 1 (dk_at dksX0_ways_3 19 rfl rfl)
theorem dX0_ways_94 : decode cX0_ways 94 = .ok (.goto (-60), 3) := dk_167 255 196 (dk_at dksX0_ways_4 0 rfl rfl)
theorem dX0_ways_97 : decode cX0_ways 97 = .ok (.lload_n 3, 1) := dk_33 (dk_at dksX0_ways_4 3 rfl rfl)
theorem dX0_ways_98 : decode cX0_ways 98 = .ok (.lreturn, 1) := dk_173 (dk_at dksX0_ways_4 4 rfl rfl)
abbrev cX0_common : ByteArray := prog_1_method_46_code
def yX0_common : MethodName := ⟨RX0, "common", "(JJ)J"⟩
def dkwX0_common_0 : List UInt8 := [32, 9, 148, 154, 0, 7, 30, 167, 0, 10, 32, 30, 32, 113, 184, 1, 17, 173]
abbrev dktX0_common_0 : List UInt8 := dkwX0_common_0 ++ []
theorem dksX0_common_0 : cX0_common.data.toList.drop 0 = dktX0_common_0 := by decide +kernel
theorem dX0_common_0 : decode cX0_common 0 = .ok (.lload_n 2, 1) := dk_32 (dk_at dksX0_common_0 0 rfl rfl)
theorem dX0_common_1 : decode cX0_common 1 = .ok (.lconst 0, 1) := dk_9 (dk_at dksX0_common_0 1 rfl rfl)
theorem dX0_common_2 : decode cX0_common 2 = .ok (.lcmp, 1) := dk_148 (dk_at dksX0_common_0 2 rfl rfl)
theorem dX0_common_3 : decode cX0_common 3 = .ok (.ifCond .ne 7, 3) := dk_154 0 7 (dk_at dksX0_common_0 3 rfl rfl)
theorem dX0_common_6 : decode cX0_common 6 = .ok (.lload_n 0, 1) := dk_30 (dk_at dksX0_common_0 6 rfl rfl)
theorem dX0_common_7 : decode cX0_common 7 = .ok (.goto 10, 3) := dk_167 0 10 (dk_at dksX0_common_0 7 rfl rfl)
theorem dX0_common_10 : decode cX0_common 10 = .ok (.lload_n 2, 1) := dk_32 (dk_at dksX0_common_0 10 rfl rfl)
theorem dX0_common_11 : decode cX0_common 11 = .ok (.lload_n 0, 1) := dk_30 (dk_at dksX0_common_0 11 rfl rfl)
theorem dX0_common_12 : decode cX0_common 12 = .ok (.lload_n 2, 1) := dk_32 (dk_at dksX0_common_0 12 rfl rfl)
theorem dX0_common_13 : decode cX0_common 13 = .ok (.lrem, 1) := dk_113 (dk_at dksX0_common_0 13 rfl rfl)
theorem dX0_common_14 : decode cX0_common 14 = .ok (.invokestatic 273, 3) := dk_184 1 17 (dk_at dksX0_common_0 14 rfl rfl)
theorem dX0_common_17 : decode cX0_common 17 = .ok (.lreturn, 1) := dk_173 (dk_at dksX0_common_0 17 rfl rfl)
abbrev cX0_tell : ByteArray := prog_1_method_49_code
def yX0_tell : MethodName := ⟨RX0, "tell", "(II)I"⟩
def dkwX0_tell_4 : List UInt8 := [90, 181, 1, 32, 172]
abbrev dktX0_tell_4 : List UInt8 := dkwX0_tell_4 ++ []
def dkwX0_tell_3 : List UInt8 := [180, 1, 35, 42, 180, 0, 12, 180, 1, 32, 50, 4, 28, 79, 42, 180, 0, 12, 89, 180, 1, 32, 4, 96]
abbrev dktX0_tell_3 : List UInt8 := dkwX0_tell_3 ++ dktX0_tell_4
def dkwX0_tell_2 : List UInt8 := [172, 42, 180, 0, 12, 180, 1, 35, 42, 180, 0, 12, 180, 1, 32, 50, 3, 27, 79, 42, 180, 0, 12]
abbrev dktX0_tell_2 : List UInt8 := dkwX0_tell_2 ++ dktX0_tell_3
def dkwX0_tell_1 : List UInt8 := [4, 17, 3, 231, 184, 0, 66, 153, 0, 15, 42, 180, 0, 12, 180, 1, 32, 16, 20, 160, 0, 6, 16, 254]
abbrev dktX0_tell_1 : List UInt8 := dkwX0_tell_1 ++ dktX0_tell_2
def dkwX0_tell_0 : List UInt8 := [27, 2, 160, 0, 13, 42, 180, 0, 12, 3, 181, 1, 32, 3, 172, 42, 27, 182, 0, 150, 153, 0, 26, 28]
abbrev dktX0_tell_0 : List UInt8 := dkwX0_tell_0 ++ dktX0_tell_1
theorem dksX0_tell_0 : cX0_tell.data.toList.drop 0 = dktX0_tell_0 := by decide +kernel
theorem dksX0_tell_1 : cX0_tell.data.toList.drop 24 = dktX0_tell_1 := dk_seg dksX0_tell_0 24 rfl rfl
theorem dksX0_tell_2 : cX0_tell.data.toList.drop 48 = dktX0_tell_2 := dk_seg dksX0_tell_1 24 rfl rfl
theorem dksX0_tell_3 : cX0_tell.data.toList.drop 71 = dktX0_tell_3 := dk_seg dksX0_tell_2 23 rfl rfl
theorem dksX0_tell_4 : cX0_tell.data.toList.drop 95 = dktX0_tell_4 := dk_seg dksX0_tell_3 24 rfl rfl
theorem dX0_tell_0 : decode cX0_tell 0 = .ok (.iload_n 1, 1) := dk_27 (dk_at dksX0_tell_0 0 rfl rfl)
theorem dX0_tell_1 : decode cX0_tell 1 = .ok (.iconst (-1), 1) := dk_2 (dk_at dksX0_tell_0 1 rfl rfl)
theorem dX0_tell_2 : decode cX0_tell 2 = .ok (.if_icmp .ne 13, 3) := dk_160 0 13 (dk_at dksX0_tell_0 2 rfl rfl)
theorem dX0_tell_5 : decode cX0_tell 5 = .ok (.aload_n 0, 1) := dk_42 (dk_at dksX0_tell_0 5 rfl rfl)
theorem dX0_tell_6 : decode cX0_tell 6 = .ok (.getfield 12, 3) := dk_180 0 12 (dk_at dksX0_tell_0 6 rfl rfl)
theorem dX0_tell_9 : decode cX0_tell 9 = .ok (.iconst 0, 1) := dk_3 (dk_at dksX0_tell_0 9 rfl rfl)
theorem dX0_tell_10 : decode cX0_tell 10 = .ok (.putfield 288, 3) := dk_181 1 32 (dk_at dksX0_tell_0 10 rfl rfl)
theorem dX0_tell_13 : decode cX0_tell 13 = .ok (.iconst 0, 1) := dk_3 (dk_at dksX0_tell_0 13 rfl rfl)
theorem dX0_tell_14 : decode cX0_tell 14 = .ok (.ireturn, 1) := dk_172 (dk_at dksX0_tell_0 14 rfl rfl)
theorem dX0_tell_15 : decode cX0_tell 15 = .ok (.aload_n 0, 1) := dk_42 (dk_at dksX0_tell_0 15 rfl rfl)
theorem dX0_tell_16 : decode cX0_tell 16 = .ok (.iload_n 1, 1) := dk_27 (dk_at dksX0_tell_0 16 rfl rfl)
theorem dX0_tell_17 : decode cX0_tell 17 = .ok (.invokevirtual 150, 3) := dk_182 0 150 (dk_at dksX0_tell_0 17 rfl rfl)
theorem dX0_tell_20 : decode cX0_tell 20 = .ok (.ifCond .eq 26, 3) := dk_153 0 26 (dk_at dksX0_tell_0 20 rfl rfl)
theorem dX0_tell_23 : decode cX0_tell 23 = .ok (.iload_n 2, 1) := dk_28 (dk_at dksX0_tell_0 23 rfl rfl)
theorem dX0_tell_24 : decode cX0_tell 24 = .ok (.iconst 1, 1) := dk_4 (dk_at dksX0_tell_1 0 rfl rfl)
theorem dX0_tell_25 : decode cX0_tell 25 = .ok (.sipush 999, 3) := dk_17 3 231 (dk_at dksX0_tell_1 1 rfl rfl)
theorem dX0_tell_28 : decode cX0_tell 28 = .ok (.invokestatic 66, 3) := dk_184 0 66 (dk_at dksX0_tell_1 4 rfl rfl)
theorem dX0_tell_31 : decode cX0_tell 31 = .ok (.ifCond .eq 15, 3) := dk_153 0 15 (dk_at dksX0_tell_1 7 rfl rfl)
theorem dX0_tell_34 : decode cX0_tell 34 = .ok (.aload_n 0, 1) := dk_42 (dk_at dksX0_tell_1 10 rfl rfl)
theorem dX0_tell_35 : decode cX0_tell 35 = .ok (.getfield 12, 3) := dk_180 0 12 (dk_at dksX0_tell_1 11 rfl rfl)
theorem dX0_tell_38 : decode cX0_tell 38 = .ok (.getfield 288, 3) := dk_180 1 32 (dk_at dksX0_tell_1 14 rfl rfl)
theorem dX0_tell_41 : decode cX0_tell 41 = .ok (.bipush 20, 2) := dk_16 20 (dk_at dksX0_tell_1 17 rfl rfl)
theorem dX0_tell_43 : decode cX0_tell 43 = .ok (.if_icmp .ne 6, 3) := dk_160 0 6 (dk_at dksX0_tell_1 19 rfl rfl)
theorem dX0_tell_46 : decode cX0_tell 46 = .ok (.bipush (-2), 2) := dk_16 254 (dk_at dksX0_tell_1 22 rfl rfl)
theorem dX0_tell_48 : decode cX0_tell 48 = .ok (.ireturn, 1) := dk_172 (dk_at dksX0_tell_2 0 rfl rfl)
theorem dX0_tell_49 : decode cX0_tell 49 = .ok (.aload_n 0, 1) := dk_42 (dk_at dksX0_tell_2 1 rfl rfl)
theorem dX0_tell_50 : decode cX0_tell 50 = .ok (.getfield 12, 3) := dk_180 0 12 (dk_at dksX0_tell_2 2 rfl rfl)
theorem dX0_tell_53 : decode cX0_tell 53 = .ok (.getfield 291, 3) := dk_180 1 35 (dk_at dksX0_tell_2 5 rfl rfl)
theorem dX0_tell_56 : decode cX0_tell 56 = .ok (.aload_n 0, 1) := dk_42 (dk_at dksX0_tell_2 8 rfl rfl)
theorem dX0_tell_57 : decode cX0_tell 57 = .ok (.getfield 12, 3) := dk_180 0 12 (dk_at dksX0_tell_2 9 rfl rfl)
theorem dX0_tell_60 : decode cX0_tell 60 = .ok (.getfield 288, 3) := dk_180 1 32 (dk_at dksX0_tell_2 12 rfl rfl)
theorem dX0_tell_63 : decode cX0_tell 63 = .ok (.aaload, 1) := dk_50 (dk_at dksX0_tell_2 15 rfl rfl)
theorem dX0_tell_64 : decode cX0_tell 64 = .ok (.iconst 0, 1) := dk_3 (dk_at dksX0_tell_2 16 rfl rfl)
theorem dX0_tell_65 : decode cX0_tell 65 = .ok (.iload_n 1, 1) := dk_27 (dk_at dksX0_tell_2 17 rfl rfl)
theorem dX0_tell_66 : decode cX0_tell 66 = .ok (.iastore, 1) := dk_79 (dk_at dksX0_tell_2 18 rfl rfl)
theorem dX0_tell_67 : decode cX0_tell 67 = .ok (.aload_n 0, 1) := dk_42 (dk_at dksX0_tell_2 19 rfl rfl)
theorem dX0_tell_68 : decode cX0_tell 68 = .ok (.getfield 12, 3) := dk_180 0 12 (dk_at dksX0_tell_2 20 rfl rfl)
theorem dX0_tell_71 : decode cX0_tell 71 = .ok (.getfield 291, 3) := dk_180 1 35 (dk_at dksX0_tell_3 0 rfl rfl)
theorem dX0_tell_74 : decode cX0_tell 74 = .ok (.aload_n 0, 1) := dk_42 (dk_at dksX0_tell_3 3 rfl rfl)
theorem dX0_tell_75 : decode cX0_tell 75 = .ok (.getfield 12, 3) := dk_180 0 12 (dk_at dksX0_tell_3 4 rfl rfl)
theorem dX0_tell_78 : decode cX0_tell 78 = .ok (.getfield 288, 3) := dk_180 1 32 (dk_at dksX0_tell_3 7 rfl rfl)
theorem dX0_tell_81 : decode cX0_tell 81 = .ok (.aaload, 1) := dk_50 (dk_at dksX0_tell_3 10 rfl rfl)
theorem dX0_tell_82 : decode cX0_tell 82 = .ok (.iconst 1, 1) := dk_4 (dk_at dksX0_tell_3 11 rfl rfl)
theorem dX0_tell_83 : decode cX0_tell 83 = .ok (.iload_n 2, 1) := dk_28 (dk_at dksX0_tell_3 12 rfl rfl)
theorem dX0_tell_84 : decode cX0_tell 84 = .ok (.iastore, 1) := dk_79 (dk_at dksX0_tell_3 13 rfl rfl)
theorem dX0_tell_85 : decode cX0_tell 85 = .ok (.aload_n 0, 1) := dk_42 (dk_at dksX0_tell_3 14 rfl rfl)
theorem dX0_tell_86 : decode cX0_tell 86 = .ok (.getfield 12, 3) := dk_180 0 12 (dk_at dksX0_tell_3 15 rfl rfl)
theorem dX0_tell_89 : decode cX0_tell 89 = .ok (.dup, 1) := dk_89 (dk_at dksX0_tell_3 18 rfl rfl)
theorem dX0_tell_90 : decode cX0_tell 90 = .ok (.getfield 288, 3) := dk_180 1 32 (dk_at dksX0_tell_3 19 rfl rfl)
theorem dX0_tell_93 : decode cX0_tell 93 = .ok (.iconst 1, 1) := dk_4 (dk_at dksX0_tell_3 22 rfl rfl)
theorem dX0_tell_94 : decode cX0_tell 94 = .ok (.iadd, 1) := dk_96 (dk_at dksX0_tell_3 23 rfl rfl)
theorem dX0_tell_95 : decode cX0_tell 95 = .ok (.dup_x1, 1) := dk_90 (dk_at dksX0_tell_4 0 rfl rfl)
theorem dX0_tell_96 : decode cX0_tell 96 = .ok (.putfield 288, 3) := dk_181 1 32 (dk_at dksX0_tell_4 1 rfl rfl)
theorem dX0_tell_99 : decode cX0_tell 99 = .ok (.ireturn, 1) := dk_172 (dk_at dksX0_tell_4 4 rfl rfl)
abbrev cX0_liars : ByteArray := prog_1_method_51_code
def yX0_liars : MethodName := ⟨RX0, "liars", "()I"⟩
def dkwX0_liars_1 : List UInt8 := [4, 28, 120, 167, 0, 4, 3, 128, 60, 132, 2, 1, 167, 255, 224, 27, 172]
abbrev dktX0_liars_1 : List UInt8 := dkwX0_liars_1 ++ []
def dkwX0_liars_0 : List UInt8 := [3, 60, 3, 61, 28, 42, 180, 0, 12, 180, 0, 63, 162, 0, 27, 27, 42, 28, 182, 1, 38, 153, 0, 9]
abbrev dktX0_liars_0 : List UInt8 := dkwX0_liars_0 ++ dktX0_liars_1
theorem dksX0_liars_0 : cX0_liars.data.toList.drop 0 = dktX0_liars_0 := by decide +kernel
theorem dksX0_liars_1 : cX0_liars.data.toList.drop 24 = dktX0_liars_1 := dk_seg dksX0_liars_0 24 rfl rfl
theorem dX0_liars_0 : decode cX0_liars 0 = .ok (.iconst 0, 1) := dk_3 (dk_at dksX0_liars_0 0 rfl rfl)
theorem dX0_liars_1 : decode cX0_liars 1 = .ok (.istore_n 1, 1) := dk_60 (dk_at dksX0_liars_0 1 rfl rfl)
theorem dX0_liars_2 : decode cX0_liars 2 = .ok (.iconst 0, 1) := dk_3 (dk_at dksX0_liars_0 2 rfl rfl)
theorem dX0_liars_3 : decode cX0_liars 3 = .ok (.istore_n 2, 1) := dk_61 (dk_at dksX0_liars_0 3 rfl rfl)
theorem dX0_liars_4 : decode cX0_liars 4 = .ok (.iload_n 2, 1) := dk_28 (dk_at dksX0_liars_0 4 rfl rfl)
theorem dX0_liars_5 : decode cX0_liars 5 = .ok (.aload_n 0, 1) := dk_42 (dk_at dksX0_liars_0 5 rfl rfl)
theorem dX0_liars_6 : decode cX0_liars 6 = .ok (.getfield 12, 3) := dk_180 0 12 (dk_at dksX0_liars_0 6 rfl rfl)
theorem dX0_liars_9 : decode cX0_liars 9 = .ok (.getfield 63, 3) := dk_180 0 63 (dk_at dksX0_liars_0 9 rfl rfl)
theorem dX0_liars_12 : decode cX0_liars 12 = .ok (.if_icmp .ge 27, 3) := dk_162 0 27 (dk_at dksX0_liars_0 12 rfl rfl)
theorem dX0_liars_15 : decode cX0_liars 15 = .ok (.iload_n 1, 1) := dk_27 (dk_at dksX0_liars_0 15 rfl rfl)
theorem dX0_liars_16 : decode cX0_liars 16 = .ok (.aload_n 0, 1) := dk_42 (dk_at dksX0_liars_0 16 rfl rfl)
theorem dX0_liars_17 : decode cX0_liars 17 = .ok (.iload_n 2, 1) := dk_28 (dk_at dksX0_liars_0 17 rfl rfl)
theorem dX0_liars_18 : decode cX0_liars 18 = .ok (.invokevirtual 294, 3) := dk_182 1 38 (dk_at dksX0_liars_0 18 rfl rfl)
theorem dX0_liars_21 : decode cX0_liars 21 = .ok (.ifCond .eq 9, 3) := dk_153 0 9 (dk_at dksX0_liars_0 21 rfl rfl)
theorem dX0_liars_24 : decode cX0_liars 24 = .ok (.iconst 1, 1) := dk_4 (dk_at dksX0_liars_1 0 rfl rfl)
theorem dX0_liars_25 : decode cX0_liars 25 = .ok (.iload_n 2, 1) := dk_28 (dk_at dksX0_liars_1 1 rfl rfl)
theorem dX0_liars_26 : decode cX0_liars 26 = .ok (.ishl, 1) := dk_120 (dk_at dksX0_liars_1 2 rfl rfl)
theorem dX0_liars_27 : decode cX0_liars 27 = .ok (.goto 4, 3) := dk_167 0 4 (dk_at dksX0_liars_1 3 rfl rfl)
theorem dX0_liars_30 : decode cX0_liars 30 = .ok (.iconst 0, 1) := dk_3 (dk_at dksX0_liars_1 6 rfl rfl)
theorem dX0_liars_31 : decode cX0_liars 31 = .ok (.ior, 1) := dk_128 (dk_at dksX0_liars_1 7 rfl rfl)
theorem dX0_liars_32 : decode cX0_liars 32 = .ok (.istore_n 1, 1) := dk_60 (dk_at dksX0_liars_1 8 rfl rfl)
theorem dX0_liars_33 : decode cX0_liars 33 = .ok (.iinc 2 1, 3) := dk_132 2 1 (dk_at dksX0_liars_1 9 rfl rfl)
theorem dX0_liars_36 : decode cX0_liars 36 = .ok (.goto (-32), 3) := dk_167 255 224 (dk_at dksX0_liars_1 12 rfl rfl)
theorem dX0_liars_39 : decode cX0_liars 39 = .ok (.iload_n 1, 1) := dk_27 (dk_at dksX0_liars_1 15 rfl rfl)
theorem dX0_liars_40 : decode cX0_liars 40 = .ok (.ireturn, 1) := dk_172 (dk_at dksX0_liars_1 16 rfl rfl)
abbrev cX0_unlike : ByteArray := prog_1_method_50_code
def yX0_unlike : MethodName := ⟨RX0, "unlike", "(I)I"⟩
def dkwX0_unlike_4 : List UInt8 := [46, 167, 0, 4, 3, 100, 61, 132, 3, 1, 167, 255, 206, 28, 172]
abbrev dktX0_unlike_4 : List UInt8 := dkwX0_unlike_4 ++ []
def dkwX0_unlike_3 : List UInt8 := [180, 0, 12, 180, 0, 156, 29, 50, 3, 46, 27, 160, 0, 17, 42, 180, 0, 12, 180, 0, 156, 29, 50, 6]
abbrev dktX0_unlike_3 : List UInt8 := dkwX0_unlike_3 ++ dktX0_unlike_4
def dkwX0_unlike_2 : List UInt8 := [132, 3, 1, 167, 255, 209, 3, 62, 29, 42, 180, 0, 12, 180, 0, 77, 16, 23, 46, 162, 0, 42, 28, 42]
abbrev dktX0_unlike_2 : List UInt8 := dkwX0_unlike_2 ++ dktX0_unlike_3
def dkwX0_unlike_1 : List UInt8 := [50, 3, 46, 27, 160, 0, 17, 42, 180, 0, 12, 180, 1, 35, 29, 50, 4, 46, 167, 0, 4, 3, 96, 61]
abbrev dktX0_unlike_1 : List UInt8 := dkwX0_unlike_1 ++ dktX0_unlike_2
def dkwX0_unlike_0 : List UInt8 := [3, 61, 3, 62, 29, 42, 180, 0, 12, 180, 1, 32, 162, 0, 42, 28, 42, 180, 0, 12, 180, 1, 35, 29]
abbrev dktX0_unlike_0 : List UInt8 := dkwX0_unlike_0 ++ dktX0_unlike_1
theorem dksX0_unlike_0 : cX0_unlike.data.toList.drop 0 = dktX0_unlike_0 := by decide +kernel
theorem dksX0_unlike_1 : cX0_unlike.data.toList.drop 24 = dktX0_unlike_1 := dk_seg dksX0_unlike_0 24 rfl rfl
theorem dksX0_unlike_2 : cX0_unlike.data.toList.drop 48 = dktX0_unlike_2 := dk_seg dksX0_unlike_1 24 rfl rfl
theorem dksX0_unlike_3 : cX0_unlike.data.toList.drop 72 = dktX0_unlike_3 := dk_seg dksX0_unlike_2 24 rfl rfl
theorem dksX0_unlike_4 : cX0_unlike.data.toList.drop 96 = dktX0_unlike_4 := dk_seg dksX0_unlike_3 24 rfl rfl
theorem dX0_unlike_0 : decode cX0_unlike 0 = .ok (.iconst 0, 1) := dk_3 (dk_at dksX0_unlike_0 0 rfl rfl)
theorem dX0_unlike_1 : decode cX0_unlike 1 = .ok (.istore_n 2, 1) := dk_61 (dk_at dksX0_unlike_0 1 rfl rfl)
theorem dX0_unlike_2 : decode cX0_unlike 2 = .ok (.iconst 0, 1) := dk_3 (dk_at dksX0_unlike_0 2 rfl rfl)
theorem dX0_unlike_3 : decode cX0_unlike 3 = .ok (.istore_n 3, 1) := dk_62 (dk_at dksX0_unlike_0 3 rfl rfl)
theorem dX0_unlike_4 : decode cX0_unlike 4 = .ok (.iload_n 3, 1) := dk_29 (dk_at dksX0_unlike_0 4 rfl rfl)
theorem dX0_unlike_5 : decode cX0_unlike 5 = .ok (.aload_n 0, 1) := dk_42 (dk_at dksX0_unlike_0 5 rfl rfl)
theorem dX0_unlike_6 : decode cX0_unlike 6 = .ok (.getfield 12, 3) := dk_180 0 12 (dk_at dksX0_unlike_0 6 rfl rfl)
theorem dX0_unlike_9 : decode cX0_unlike 9 = .ok (.getfield 288, 3) := dk_180 1 32 (dk_at dksX0_unlike_0 9 rfl rfl)
theorem dX0_unlike_12 : decode cX0_unlike 12 = .ok (.if_icmp .ge 42, 3) := dk_162 0 42 (dk_at dksX0_unlike_0 12 rfl rfl)
theorem dX0_unlike_15 : decode cX0_unlike 15 = .ok (.iload_n 2, 1) := dk_28 (dk_at dksX0_unlike_0 15 rfl rfl)
theorem dX0_unlike_16 : decode cX0_unlike 16 = .ok (.aload_n 0, 1) := dk_42 (dk_at dksX0_unlike_0 16 rfl rfl)
theorem dX0_unlike_17 : decode cX0_unlike 17 = .ok (.getfield 12, 3) := dk_180 0 12 (dk_at dksX0_unlike_0 17 rfl rfl)
theorem dX0_unlike_20 : decode cX0_unlike 20 = .ok (.getfield 291, 3) := dk_180 1 35 (dk_at dksX0_unlike_0 20 rfl rfl)
theorem dX0_unlike_23 : decode cX0_unlike 23 = .ok (.iload_n 3, 1) := dk_29 (dk_at dksX0_unlike_0 23 rfl rfl)
theorem dX0_unlike_24 : decode cX0_unlike 24 = .ok (.aaload, 1) := dk_50 (dk_at dksX0_unlike_1 0 rfl rfl)
theorem dX0_unlike_25 : decode cX0_unlike 25 = .ok (.iconst 0, 1) := dk_3 (dk_at dksX0_unlike_1 1 rfl rfl)
theorem dX0_unlike_26 : decode cX0_unlike 26 = .ok (.iaload, 1) := dk_46 (dk_at dksX0_unlike_1 2 rfl rfl)
theorem dX0_unlike_27 : decode cX0_unlike 27 = .ok (.iload_n 1, 1) := dk_27 (dk_at dksX0_unlike_1 3 rfl rfl)
theorem dX0_unlike_28 : decode cX0_unlike 28 = .ok (.if_icmp .ne 17, 3) := dk_160 0 17 (dk_at dksX0_unlike_1 4 rfl rfl)
theorem dX0_unlike_31 : decode cX0_unlike 31 = .ok (.aload_n 0, 1) := dk_42 (dk_at dksX0_unlike_1 7 rfl rfl)
theorem dX0_unlike_32 : decode cX0_unlike 32 = .ok (.getfield 12, 3) := dk_180 0 12 (dk_at dksX0_unlike_1 8 rfl rfl)
theorem dX0_unlike_35 : decode cX0_unlike 35 = .ok (.getfield 291, 3) := dk_180 1 35 (dk_at dksX0_unlike_1 11 rfl rfl)
theorem dX0_unlike_38 : decode cX0_unlike 38 = .ok (.iload_n 3, 1) := dk_29 (dk_at dksX0_unlike_1 14 rfl rfl)
theorem dX0_unlike_39 : decode cX0_unlike 39 = .ok (.aaload, 1) := dk_50 (dk_at dksX0_unlike_1 15 rfl rfl)
theorem dX0_unlike_40 : decode cX0_unlike 40 = .ok (.iconst 1, 1) := dk_4 (dk_at dksX0_unlike_1 16 rfl rfl)
theorem dX0_unlike_41 : decode cX0_unlike 41 = .ok (.iaload, 1) := dk_46 (dk_at dksX0_unlike_1 17 rfl rfl)
theorem dX0_unlike_42 : decode cX0_unlike 42 = .ok (.goto 4, 3) := dk_167 0 4 (dk_at dksX0_unlike_1 18 rfl rfl)
theorem dX0_unlike_45 : decode cX0_unlike 45 = .ok (.iconst 0, 1) := dk_3 (dk_at dksX0_unlike_1 21 rfl rfl)
theorem dX0_unlike_46 : decode cX0_unlike 46 = .ok (.iadd, 1) := dk_96 (dk_at dksX0_unlike_1 22 rfl rfl)
theorem dX0_unlike_47 : decode cX0_unlike 47 = .ok (.istore_n 2, 1) := dk_61 (dk_at dksX0_unlike_1 23 rfl rfl)
theorem dX0_unlike_48 : decode cX0_unlike 48 = .ok (.iinc 3 1, 3) := dk_132 3 1 (dk_at dksX0_unlike_2 0 rfl rfl)
theorem dX0_unlike_51 : decode cX0_unlike 51 = .ok (.goto (-47), 3) := dk_167 255 209 (dk_at dksX0_unlike_2 3 rfl rfl)
theorem dX0_unlike_54 : decode cX0_unlike 54 = .ok (.iconst 0, 1) := dk_3 (dk_at dksX0_unlike_2 6 rfl rfl)
theorem dX0_unlike_55 : decode cX0_unlike 55 = .ok (.istore_n 3, 1) := dk_62 (dk_at dksX0_unlike_2 7 rfl rfl)
theorem dX0_unlike_56 : decode cX0_unlike 56 = .ok (.iload_n 3, 1) := dk_29 (dk_at dksX0_unlike_2 8 rfl rfl)
theorem dX0_unlike_57 : decode cX0_unlike 57 = .ok (.aload_n 0, 1) := dk_42 (dk_at dksX0_unlike_2 9 rfl rfl)
theorem dX0_unlike_58 : decode cX0_unlike 58 = .ok (.getfield 12, 3) := dk_180 0 12 (dk_at dksX0_unlike_2 10 rfl rfl)
theorem dX0_unlike_61 : decode cX0_unlike 61 = .ok (.getfield 77, 3) := dk_180 0 77 (dk_at dksX0_unlike_2 13 rfl rfl)
theorem dX0_unlike_64 : decode cX0_unlike 64 = .ok (.bipush 23, 2) := dk_16 23 (dk_at dksX0_unlike_2 16 rfl rfl)
theorem dX0_unlike_66 : decode cX0_unlike 66 = .ok (.iaload, 1) := dk_46 (dk_at dksX0_unlike_2 18 rfl rfl)
theorem dX0_unlike_67 : decode cX0_unlike 67 = .ok (.if_icmp .ge 42, 3) := dk_162 0 42 (dk_at dksX0_unlike_2 19 rfl rfl)
theorem dX0_unlike_70 : decode cX0_unlike 70 = .ok (.iload_n 2, 1) := dk_28 (dk_at dksX0_unlike_2 22 rfl rfl)
theorem dX0_unlike_71 : decode cX0_unlike 71 = .ok (.aload_n 0, 1) := dk_42 (dk_at dksX0_unlike_2 23 rfl rfl)
theorem dX0_unlike_72 : decode cX0_unlike 72 = .ok (.getfield 12, 3) := dk_180 0 12 (dk_at dksX0_unlike_3 0 rfl rfl)
theorem dX0_unlike_75 : decode cX0_unlike 75 = .ok (.getfield 156, 3) := dk_180 0 156 (dk_at dksX0_unlike_3 3 rfl rfl)
theorem dX0_unlike_78 : decode cX0_unlike 78 = .ok (.iload_n 3, 1) := dk_29 (dk_at dksX0_unlike_3 6 rfl rfl)
theorem dX0_unlike_79 : decode cX0_unlike 79 = .ok (.aaload, 1) := dk_50 (dk_at dksX0_unlike_3 7 rfl rfl)
theorem dX0_unlike_80 : decode cX0_unlike 80 = .ok (.iconst 0, 1) := dk_3 (dk_at dksX0_unlike_3 8 rfl rfl)
theorem dX0_unlike_81 : decode cX0_unlike 81 = .ok (.iaload, 1) := dk_46 (dk_at dksX0_unlike_3 9 rfl rfl)
theorem dX0_unlike_82 : decode cX0_unlike 82 = .ok (.iload_n 1, 1) := dk_27 (dk_at dksX0_unlike_3 10 rfl rfl)
theorem dX0_unlike_83 : decode cX0_unlike 83 = .ok (.if_icmp .ne 17, 3) := dk_160 0 17 (dk_at dksX0_unlike_3 11 rfl rfl)
theorem dX0_unlike_86 : decode cX0_unlike 86 = .ok (.aload_n 0, 1) := dk_42 (dk_at dksX0_unlike_3 14 rfl rfl)
theorem dX0_unlike_87 : decode cX0_unlike 87 = .ok (.getfield 12, 3) := dk_180 0 12 (dk_at dksX0_unlike_3 15 rfl rfl)
theorem dX0_unlike_90 : decode cX0_unlike 90 = .ok (.getfield 156, 3) := dk_180 0 156 (dk_at dksX0_unlike_3 18 rfl rfl)
theorem dX0_unlike_93 : decode cX0_unlike 93 = .ok (.iload_n 3, 1) := dk_29 (dk_at dksX0_unlike_3 21 rfl rfl)
theorem dX0_unlike_94 : decode cX0_unlike 94 = .ok (.aaload, 1) := dk_50 (dk_at dksX0_unlike_3 22 rfl rfl)
theorem dX0_unlike_95 : decode cX0_unlike 95 = .ok (.iconst 3, 1) := dk_6 (dk_at dksX0_unlike_3 23 rfl rfl)
theorem dX0_unlike_96 : decode cX0_unlike 96 = .ok (.iaload, 1) := dk_46 (dk_at dksX0_unlike_4 0 rfl rfl)
theorem dX0_unlike_97 : decode cX0_unlike 97 = .ok (.goto 4, 3) := dk_167 0 4 (dk_at dksX0_unlike_4 1 rfl rfl)
theorem dX0_unlike_100 : decode cX0_unlike 100 = .ok (.iconst 0, 1) := dk_3 (dk_at dksX0_unlike_4 4 rfl rfl)
theorem dX0_unlike_101 : decode cX0_unlike 101 = .ok (.isub, 1) := dk_100 (dk_at dksX0_unlike_4 5 rfl rfl)
theorem dX0_unlike_102 : decode cX0_unlike 102 = .ok (.istore_n 2, 1) := dk_61 (dk_at dksX0_unlike_4 6 rfl rfl)
theorem dX0_unlike_103 : decode cX0_unlike 103 = .ok (.iinc 3 1, 3) := dk_132 3 1 (dk_at dksX0_unlike_4 7 rfl rfl)
theorem dX0_unlike_106 : decode cX0_unlike 106 = .ok (.goto (-50), 3) := dk_167 255 206 (dk_at dksX0_unlike_4 10 rfl rfl)
theorem dX0_unlike_109 : decode cX0_unlike 109 = .ok (.iload_n 2, 1) := dk_28 (dk_at dksX0_unlike_4 13 rfl rfl)
theorem dX0_unlike_110 : decode cX0_unlike 110 = .ok (.ireturn, 1) := dk_172 (dk_at dksX0_unlike_4 14 rfl rfl)
abbrev cX0_inWhoseName : ByteArray := prog_1_method_52_code
def yX0_inWhoseName : MethodName := ⟨RX0, "inWhoseName", "(I)I"⟩
def dkwX0_inWhoseName_2 : List UInt8 := [172, 132, 2, 1, 167, 255, 226, 2, 172]
abbrev dktX0_inWhoseName_2 : List UInt8 := dkwX0_inWhoseName_2 ++ []
def dkwX0_inWhoseName_1 : List UInt8 := [180, 0, 12, 180, 0, 63, 162, 0, 25, 42, 28, 182, 1, 38, 42, 27, 182, 1, 38, 116, 160, 0, 5, 28]
abbrev dktX0_inWhoseName_1 : List UInt8 := dkwX0_inWhoseName_1 ++ dktX0_inWhoseName_2
def dkwX0_inWhoseName_0 : List UInt8 := [42, 27, 182, 0, 150, 153, 0, 11, 42, 27, 182, 1, 38, 155, 0, 5, 2, 172, 3, 61, 28, 42]
abbrev dktX0_inWhoseName_0 : List UInt8 := dkwX0_inWhoseName_0 ++ dktX0_inWhoseName_1
theorem dksX0_inWhoseName_0 : cX0_inWhoseName.data.toList.drop 0 = dktX0_inWhoseName_0 := by decide +kernel
theorem dksX0_inWhoseName_1 : cX0_inWhoseName.data.toList.drop 22 = dktX0_inWhoseName_1 := dk_seg dksX0_inWhoseName_0 22 rfl rfl
theorem dksX0_inWhoseName_2 : cX0_inWhoseName.data.toList.drop 46 = dktX0_inWhoseName_2 := dk_seg dksX0_inWhoseName_1 24 rfl rfl
theorem dX0_inWhoseName_0 : decode cX0_inWhoseName 0 = .ok (.aload_n 0, 1) := dk_42 (dk_at dksX0_inWhoseName_0 0 rfl rfl)
theorem dX0_inWhoseName_1 : decode cX0_inWhoseName 1 = .ok (.iload_n 1, 1) := dk_27 (dk_at dksX0_inWhoseName_0 1 rfl rfl)
theorem dX0_inWhoseName_2 : decode cX0_inWhoseName 2 = .ok (.invokevirtual 150, 3) := dk_182 0 150 (dk_at dksX0_inWhoseName_0 2 rfl rfl)
theorem dX0_inWhoseName_5 : decode cX0_inWhoseName 5 = .ok (.ifCond .eq 11, 3) := dk_153 0 11 (dk_at dksX0_inWhoseName_0 5 rfl rfl)
theorem dX0_inWhoseName_8 : decode cX0_inWhoseName 8 = .ok (.aload_n 0, 1) := dk_42 (dk_at dksX0_inWhoseName_0 8 rfl rfl)
theorem dX0_inWhoseName_9 : decode cX0_inWhoseName 9 = .ok (.iload_n 1, 1) := dk_27 (dk_at dksX0_inWhoseName_0 9 rfl rfl)
theorem dX0_inWhoseName_10 : decode cX0_inWhoseName 10 = .ok (.invokevirtual 294, 3) := dk_182 1 38 (dk_at dksX0_inWhoseName_0 10 rfl rfl)
theorem dX0_inWhoseName_13 : decode cX0_inWhoseName 13 = .ok (.ifCond .lt 5, 3) := dk_155 0 5 (dk_at dksX0_inWhoseName_0 13 rfl rfl)
theorem dX0_inWhoseName_16 : decode cX0_inWhoseName 16 = .ok (.iconst (-1), 1) := dk_2 (dk_at dksX0_inWhoseName_0 16 rfl rfl)
theorem dX0_inWhoseName_17 : decode cX0_inWhoseName 17 = .ok (.ireturn, 1) := dk_172 (dk_at dksX0_inWhoseName_0 17 rfl rfl)
theorem dX0_inWhoseName_18 : decode cX0_inWhoseName 18 = .ok (.iconst 0, 1) := dk_3 (dk_at dksX0_inWhoseName_0 18 rfl rfl)
theorem dX0_inWhoseName_19 : decode cX0_inWhoseName 19 = .ok (.istore_n 2, 1) := dk_61 (dk_at dksX0_inWhoseName_0 19 rfl rfl)
theorem dX0_inWhoseName_20 : decode cX0_inWhoseName 20 = .ok (.iload_n 2, 1) := dk_28 (dk_at dksX0_inWhoseName_0 20 rfl rfl)
theorem dX0_inWhoseName_21 : decode cX0_inWhoseName 21 = .ok (.aload_n 0, 1) := dk_42 (dk_at dksX0_inWhoseName_0 21 rfl rfl)
theorem dX0_inWhoseName_22 : decode cX0_inWhoseName 22 = .ok (.getfield 12, 3) := dk_180 0 12 (dk_at dksX0_inWhoseName_1 0 rfl rfl)
theorem dX0_inWhoseName_25 : decode cX0_inWhoseName 25 = .ok (.getfield 63, 3) := dk_180 0 63 (dk_at dksX0_inWhoseName_1 3 rfl rfl)
theorem dX0_inWhoseName_28 : decode cX0_inWhoseName 28 = .ok (.if_icmp .ge 25, 3) := dk_162 0 25 (dk_at dksX0_inWhoseName_1 6 rfl rfl)
theorem dX0_inWhoseName_31 : decode cX0_inWhoseName 31 = .ok (.aload_n 0, 1) := dk_42 (dk_at dksX0_inWhoseName_1 9 rfl rfl)
theorem dX0_inWhoseName_32 : decode cX0_inWhoseName 32 = .ok (.iload_n 2, 1) := dk_28 (dk_at dksX0_inWhoseName_1 10 rfl rfl)
theorem dX0_inWhoseName_33 : decode cX0_inWhoseName 33 = .ok (.invokevirtual 294, 3) := dk_182 1 38 (dk_at dksX0_inWhoseName_1 11 rfl rfl)
theorem dX0_inWhoseName_36 : decode cX0_inWhoseName 36 = .ok (.aload_n 0, 1) := dk_42 (dk_at dksX0_inWhoseName_1 14 rfl rfl)
theorem dX0_inWhoseName_37 : decode cX0_inWhoseName 37 = .ok (.iload_n 1, 1) := dk_27 (dk_at dksX0_inWhoseName_1 15 rfl rfl)
theorem dX0_inWhoseName_38 : decode cX0_inWhoseName 38 = .ok (.invokevirtual 294, 3) := dk_182 1 38 (dk_at dksX0_inWhoseName_1 16 rfl rfl)
theorem dX0_inWhoseName_41 : decode cX0_inWhoseName 41 = .ok (.ineg, 1) := dk_116 (dk_at dksX0_inWhoseName_1 19 rfl rfl)
theorem dX0_inWhoseName_42 : decode cX0_inWhoseName 42 = .ok (.if_icmp .ne 5, 3) := dk_160 0 5 (dk_at dksX0_inWhoseName_1 20 rfl rfl)
theorem dX0_inWhoseName_45 : decode cX0_inWhoseName 45 = .ok (.iload_n 2, 1) := dk_28 (dk_at dksX0_inWhoseName_1 23 rfl rfl)
theorem dX0_inWhoseName_46 : decode cX0_inWhoseName 46 = .ok (.ireturn, 1) := dk_172 (dk_at dksX0_inWhoseName_2 0 rfl rfl)
theorem dX0_inWhoseName_47 : decode cX0_inWhoseName 47 = .ok (.iinc 2 1, 3) := dk_132 2 1 (dk_at dksX0_inWhoseName_2 1 rfl rfl)
theorem dX0_inWhoseName_50 : decode cX0_inWhoseName 50 = .ok (.goto (-30), 3) := dk_167 255 226 (dk_at dksX0_inWhoseName_2 4 rfl rfl)
theorem dX0_inWhoseName_53 : decode cX0_inWhoseName 53 = .ok (.iconst (-1), 1) := dk_2 (dk_at dksX0_inWhoseName_2 7 rfl rfl)
theorem dX0_inWhoseName_54 : decode cX0_inWhoseName 54 = .ok (.ireturn, 1) := dk_172 (dk_at dksX0_inWhoseName_2 8 rfl rfl)
abbrev cX0_image : ByteArray := prog_1_method_53_code
def yX0_image : MethodName := ⟨RX0, "image", "()I"⟩
def dkwX0_image_0 : List UInt8 := [42, 180, 0, 16, 42, 180, 0, 12, 182, 1, 41, 42, 180, 0, 12, 180, 0, 77, 16, 23, 46, 172]
abbrev dktX0_image_0 : List UInt8 := dkwX0_image_0 ++ []
theorem dksX0_image_0 : cX0_image.data.toList.drop 0 = dktX0_image_0 := by decide +kernel
theorem dX0_image_0 : decode cX0_image 0 = .ok (.aload_n 0, 1) := dk_42 (dk_at dksX0_image_0 0 rfl rfl)
theorem dX0_image_1 : decode cX0_image 1 = .ok (.getfield 16, 3) := dk_180 0 16 (dk_at dksX0_image_0 1 rfl rfl)
theorem dX0_image_4 : decode cX0_image 4 = .ok (.aload_n 0, 1) := dk_42 (dk_at dksX0_image_0 4 rfl rfl)
theorem dX0_image_5 : decode cX0_image 5 = .ok (.getfield 12, 3) := dk_180 0 12 (dk_at dksX0_image_0 5 rfl rfl)
theorem dX0_image_8 : decode cX0_image 8 = .ok (.invokevirtual 297, 3) := dk_182 1 41 (dk_at dksX0_image_0 8 rfl rfl)
theorem dX0_image_11 : decode cX0_image 11 = .ok (.aload_n 0, 1) := dk_42 (dk_at dksX0_image_0 11 rfl rfl)
theorem dX0_image_12 : decode cX0_image 12 = .ok (.getfield 12, 3) := dk_180 0 12 (dk_at dksX0_image_0 12 rfl rfl)
theorem dX0_image_15 : decode cX0_image 15 = .ok (.getfield 77, 3) := dk_180 0 77 (dk_at dksX0_image_0 15 rfl rfl)
theorem dX0_image_18 : decode cX0_image 18 = .ok (.bipush 23, 2) := dk_16 23 (dk_at dksX0_image_0 18 rfl rfl)
theorem dX0_image_20 : decode cX0_image 20 = .ok (.iaload, 1) := dk_46 (dk_at dksX0_image_0 20 rfl rfl)
theorem dX0_image_21 : decode cX0_image 21 = .ok (.ireturn, 1) := dk_172 (dk_at dksX0_image_0 21 rfl rfl)
abbrev cX0_back : ByteArray := prog_1_method_54_code
def yX0_back : MethodName := ⟨RX0, "back", "()I"⟩
def dkwX0_back_0 : List UInt8 := [42, 180, 0, 12, 42, 180, 0, 16, 182, 1, 41, 42, 180, 0, 12, 180, 0, 77, 16, 23, 46, 172]
abbrev dktX0_back_0 : List UInt8 := dkwX0_back_0 ++ []
theorem dksX0_back_0 : cX0_back.data.toList.drop 0 = dktX0_back_0 := by decide +kernel
theorem dX0_back_0 : decode cX0_back 0 = .ok (.aload_n 0, 1) := dk_42 (dk_at dksX0_back_0 0 rfl rfl)
theorem dX0_back_1 : decode cX0_back 1 = .ok (.getfield 12, 3) := dk_180 0 12 (dk_at dksX0_back_0 1 rfl rfl)
theorem dX0_back_4 : decode cX0_back 4 = .ok (.aload_n 0, 1) := dk_42 (dk_at dksX0_back_0 4 rfl rfl)
theorem dX0_back_5 : decode cX0_back 5 = .ok (.getfield 16, 3) := dk_180 0 16 (dk_at dksX0_back_0 5 rfl rfl)
theorem dX0_back_8 : decode cX0_back 8 = .ok (.invokevirtual 297, 3) := dk_182 1 41 (dk_at dksX0_back_0 8 rfl rfl)
theorem dX0_back_11 : decode cX0_back 11 = .ok (.aload_n 0, 1) := dk_42 (dk_at dksX0_back_0 11 rfl rfl)
theorem dX0_back_12 : decode cX0_back 12 = .ok (.getfield 12, 3) := dk_180 0 12 (dk_at dksX0_back_0 12 rfl rfl)
theorem dX0_back_15 : decode cX0_back 15 = .ok (.getfield 77, 3) := dk_180 0 77 (dk_at dksX0_back_0 15 rfl rfl)
theorem dX0_back_18 : decode cX0_back 18 = .ok (.bipush 23, 2) := dk_16 23 (dk_at dksX0_back_0 18 rfl rfl)
theorem dX0_back_20 : decode cX0_back 20 = .ok (.iaload, 1) := dk_46 (dk_at dksX0_back_0 20 rfl rfl)
theorem dX0_back_21 : decode cX0_back 21 = .ok (.ireturn, 1) := dk_172 (dk_at dksX0_back_0 21 rfl rfl)
abbrev cX0_about : ByteArray := prog_1_method_55_code
def yX0_about : MethodName := ⟨RX0, "about", "(I)I"⟩
def dkwX0_about_6 : List UInt8 := [180, 0, 12, 180, 0, 254, 172, 42, 180, 0, 12, 180, 1, 32, 172, 42, 180, 0, 179, 172, 16, 254, 172]
abbrev dktX0_about_6 : List UInt8 := dkwX0_about_6 ++ []
def dkwX0_about_5 : List UInt8 := [180, 0, 12, 180, 0, 186, 172, 42, 180, 0, 12, 180, 0, 60, 172, 42, 180, 0, 12, 180, 0, 173, 172, 42]
abbrev dktX0_about_5 : List UInt8 := dkwX0_about_5 ++ dktX0_about_6
def dkwX0_about_4 : List UInt8 := [180, 0, 12, 180, 0, 77, 16, 24, 46, 172, 42, 180, 0, 12, 180, 0, 77, 16, 22, 46, 172, 42]
abbrev dktX0_about_4 : List UInt8 := dkwX0_about_4 ++ dktX0_about_5
def dkwX0_about_3 : List UInt8 := [42, 180, 0, 12, 180, 0, 63, 172, 42, 180, 0, 12, 180, 0, 77, 184, 0, 132, 17, 39, 16, 96, 172, 42]
abbrev dktX0_about_3 : List UInt8 := dkwX0_about_3 ++ dktX0_about_4
def dkwX0_about_2 : List UInt8 := [170, 0, 0, 0, 143, 0, 0, 0, 0, 0, 0, 0, 9, 0, 0, 0, 53, 0, 0, 0, 61, 0, 0, 0, 76, 0, 0, 0, 87, 0, 0, 0, 98, 0, 0, 0, 106, 0, 0, 0, 114, 0, 0, 0, 122, 0, 0, 0, 130, 0, 0, 0, 138]
abbrev dktX0_about_2 : List UInt8 := dkwX0_about_2 ++ dktX0_about_3
def dkwX0_about_1 : List UInt8 := [46, 172, 27]
abbrev dktX0_about_1 : List UInt8 := dkwX0_about_1 ++ dktX0_about_2
def dkwX0_about_0 : List UInt8 := [27, 16, 10, 16, 13, 184, 0, 66, 153, 0, 18, 42, 180, 0, 12, 180, 0, 77, 3, 27, 96, 16, 10, 100]
abbrev dktX0_about_0 : List UInt8 := dkwX0_about_0 ++ dktX0_about_1
theorem dksX0_about_0 : cX0_about.data.toList.drop 0 = dktX0_about_0 := by decide +kernel
theorem dksX0_about_1 : cX0_about.data.toList.drop 24 = dktX0_about_1 := dk_seg dksX0_about_0 24 rfl rfl
theorem dksX0_about_2 : cX0_about.data.toList.drop 27 = dktX0_about_2 := dk_seg dksX0_about_1 3 rfl rfl
theorem dksX0_about_3 : cX0_about.data.toList.drop 80 = dktX0_about_3 := dk_seg dksX0_about_2 53 rfl rfl
theorem dksX0_about_4 : cX0_about.data.toList.drop 104 = dktX0_about_4 := dk_seg dksX0_about_3 24 rfl rfl
theorem dksX0_about_5 : cX0_about.data.toList.drop 126 = dktX0_about_5 := dk_seg dksX0_about_4 22 rfl rfl
theorem dksX0_about_6 : cX0_about.data.toList.drop 150 = dktX0_about_6 := dk_seg dksX0_about_5 24 rfl rfl
theorem dX0_about_0 : decode cX0_about 0 = .ok (.iload_n 1, 1) := dk_27 (dk_at dksX0_about_0 0 rfl rfl)
theorem dX0_about_1 : decode cX0_about 1 = .ok (.bipush 10, 2) := dk_16 10 (dk_at dksX0_about_0 1 rfl rfl)
theorem dX0_about_3 : decode cX0_about 3 = .ok (.bipush 13, 2) := dk_16 13 (dk_at dksX0_about_0 3 rfl rfl)
theorem dX0_about_5 : decode cX0_about 5 = .ok (.invokestatic 66, 3) := dk_184 0 66 (dk_at dksX0_about_0 5 rfl rfl)
theorem dX0_about_8 : decode cX0_about 8 = .ok (.ifCond .eq 18, 3) := dk_153 0 18 (dk_at dksX0_about_0 8 rfl rfl)
theorem dX0_about_11 : decode cX0_about 11 = .ok (.aload_n 0, 1) := dk_42 (dk_at dksX0_about_0 11 rfl rfl)
theorem dX0_about_12 : decode cX0_about 12 = .ok (.getfield 12, 3) := dk_180 0 12 (dk_at dksX0_about_0 12 rfl rfl)
theorem dX0_about_15 : decode cX0_about 15 = .ok (.getfield 77, 3) := dk_180 0 77 (dk_at dksX0_about_0 15 rfl rfl)
theorem dX0_about_18 : decode cX0_about 18 = .ok (.iconst 0, 1) := dk_3 (dk_at dksX0_about_0 18 rfl rfl)
theorem dX0_about_19 : decode cX0_about 19 = .ok (.iload_n 1, 1) := dk_27 (dk_at dksX0_about_0 19 rfl rfl)
theorem dX0_about_20 : decode cX0_about 20 = .ok (.iadd, 1) := dk_96 (dk_at dksX0_about_0 20 rfl rfl)
theorem dX0_about_21 : decode cX0_about 21 = .ok (.bipush 10, 2) := dk_16 10 (dk_at dksX0_about_0 21 rfl rfl)
theorem dX0_about_23 : decode cX0_about 23 = .ok (.isub, 1) := dk_100 (dk_at dksX0_about_0 23 rfl rfl)
theorem dX0_about_24 : decode cX0_about 24 = .ok (.iaload, 1) := dk_46 (dk_at dksX0_about_1 0 rfl rfl)
theorem dX0_about_25 : decode cX0_about 25 = .ok (.ireturn, 1) := dk_172 (dk_at dksX0_about_1 1 rfl rfl)
theorem dX0_about_26 : decode cX0_about 26 = .ok (.iload_n 1, 1) := dk_27 (dk_at dksX0_about_1 2 rfl rfl)
theorem dX0_about_27 : decode cX0_about 27 = .ok (.tableswitch 143 0 9 #[53, 61, 76, 87, 98, 106, 114, 122, 130, 138], 53) := by decide +kernel
theorem dX0_about_80 : decode cX0_about 80 = .ok (.aload_n 0, 1) := dk_42 (dk_at dksX0_about_3 0 rfl rfl)
theorem dX0_about_81 : decode cX0_about 81 = .ok (.getfield 12, 3) := dk_180 0 12 (dk_at dksX0_about_3 1 rfl rfl)
theorem dX0_about_84 : decode cX0_about 84 = .ok (.getfield 63, 3) := dk_180 0 63 (dk_at dksX0_about_3 4 rfl rfl)
theorem dX0_about_87 : decode cX0_about 87 = .ok (.ireturn, 1) := dk_172 (dk_at dksX0_about_3 7 rfl rfl)
theorem dX0_about_88 : decode cX0_about 88 = .ok (.aload_n 0, 1) := dk_42 (dk_at dksX0_about_3 8 rfl rfl)
theorem dX0_about_89 : decode cX0_about 89 = .ok (.getfield 12, 3) := dk_180 0 12 (dk_at dksX0_about_3 9 rfl rfl)
theorem dX0_about_92 : decode cX0_about 92 = .ok (.getfield 77, 3) := dk_180 0 77 (dk_at dksX0_about_3 12 rfl rfl)
theorem dX0_about_95 : decode cX0_about 95 = .ok (.invokestatic 132, 3) := dk_184 0 132 (dk_at dksX0_about_3 15 rfl rfl)
theorem dX0_about_98 : decode cX0_about 98 = .ok (.sipush 10000, 3) := dk_17 39 16 (dk_at dksX0_about_3 18 rfl rfl)
theorem dX0_about_101 : decode cX0_about 101 = .ok (.iadd, 1) := dk_96 (dk_at dksX0_about_3 21 rfl rfl)
theorem dX0_about_102 : decode cX0_about 102 = .ok (.ireturn, 1) := dk_172 (dk_at dksX0_about_3 22 rfl rfl)
theorem dX0_about_103 : decode cX0_about 103 = .ok (.aload_n 0, 1) := dk_42 (dk_at dksX0_about_3 23 rfl rfl)
theorem dX0_about_104 : decode cX0_about 104 = .ok (.getfield 12, 3) := dk_180 0 12 (dk_at dksX0_about_4 0 rfl rfl)
theorem dX0_about_107 : decode cX0_about 107 = .ok (.getfield 77, 3) := dk_180 0 77 (dk_at dksX0_about_4 3 rfl rfl)
theorem dX0_about_110 : decode cX0_about 110 = .ok (.bipush 24, 2) := dk_16 24 (dk_at dksX0_about_4 6 rfl rfl)
theorem dX0_about_112 : decode cX0_about 112 = .ok (.iaload, 1) := dk_46 (dk_at dksX0_about_4 8 rfl rfl)
theorem dX0_about_113 : decode cX0_about 113 = .ok (.ireturn, 1) := dk_172 (dk_at dksX0_about_4 9 rfl rfl)
theorem dX0_about_114 : decode cX0_about 114 = .ok (.aload_n 0, 1) := dk_42 (dk_at dksX0_about_4 10 rfl rfl)
theorem dX0_about_115 : decode cX0_about 115 = .ok (.getfield 12, 3) := dk_180 0 12 (dk_at dksX0_about_4 11 rfl rfl)
theorem dX0_about_118 : decode cX0_about 118 = .ok (.getfield 77, 3) := dk_180 0 77 (dk_at dksX0_about_4 14 rfl rfl)
theorem dX0_about_121 : decode cX0_about 121 = .ok (.bipush 22, 2) := dk_16 22 (dk_at dksX0_about_4 17 rfl rfl)
theorem dX0_about_123 : decode cX0_about 123 = .ok (.iaload, 1) := dk_46 (dk_at dksX0_about_4 19 rfl rfl)
theorem dX0_about_124 : decode cX0_about 124 = .ok (.ireturn, 1) := dk_172 (dk_at dksX0_about_4 20 rfl rfl)
theorem dX0_about_125 : decode cX0_about 125 = .ok (.aload_n 0, 1) := dk_42 (dk_at dksX0_about_4 21 rfl rfl)
theorem dX0_about_126 : decode cX0_about 126 = .ok (.getfield 12, 3) := dk_180 0 12 (dk_at dksX0_about_5 0 rfl rfl)
theorem dX0_about_129 : decode cX0_about 129 = .ok (.getfield 186, 3) := dk_180 0 186 (dk_at dksX0_about_5 3 rfl rfl)
theorem dX0_about_132 : decode cX0_about 132 = .ok (.ireturn, 1) := dk_172 (dk_at dksX0_about_5 6 rfl rfl)
theorem dX0_about_133 : decode cX0_about 133 = .ok (.aload_n 0, 1) := dk_42 (dk_at dksX0_about_5 7 rfl rfl)
theorem dX0_about_134 : decode cX0_about 134 = .ok (.getfield 12, 3) := dk_180 0 12 (dk_at dksX0_about_5 8 rfl rfl)
theorem dX0_about_137 : decode cX0_about 137 = .ok (.getfield 60, 3) := dk_180 0 60 (dk_at dksX0_about_5 11 rfl rfl)
theorem dX0_about_140 : decode cX0_about 140 = .ok (.ireturn, 1) := dk_172 (dk_at dksX0_about_5 14 rfl rfl)
theorem dX0_about_141 : decode cX0_about 141 = .ok (.aload_n 0, 1) := dk_42 (dk_at dksX0_about_5 15 rfl rfl)
theorem dX0_about_142 : decode cX0_about 142 = .ok (.getfield 12, 3) := dk_180 0 12 (dk_at dksX0_about_5 16 rfl rfl)
theorem dX0_about_145 : decode cX0_about 145 = .ok (.getfield 173, 3) := dk_180 0 173 (dk_at dksX0_about_5 19 rfl rfl)
theorem dX0_about_148 : decode cX0_about 148 = .ok (.ireturn, 1) := dk_172 (dk_at dksX0_about_5 22 rfl rfl)
theorem dX0_about_149 : decode cX0_about 149 = .ok (.aload_n 0, 1) := dk_42 (dk_at dksX0_about_5 23 rfl rfl)
theorem dX0_about_150 : decode cX0_about 150 = .ok (.getfield 12, 3) := dk_180 0 12 (dk_at dksX0_about_6 0 rfl rfl)
theorem dX0_about_153 : decode cX0_about 153 = .ok (.getfield 254, 3) := dk_180 0 254 (dk_at dksX0_about_6 3 rfl rfl)
theorem dX0_about_156 : decode cX0_about 156 = .ok (.ireturn, 1) := dk_172 (dk_at dksX0_about_6 6 rfl rfl)
theorem dX0_about_157 : decode cX0_about 157 = .ok (.aload_n 0, 1) := dk_42 (dk_at dksX0_about_6 7 rfl rfl)
theorem dX0_about_158 : decode cX0_about 158 = .ok (.getfield 12, 3) := dk_180 0 12 (dk_at dksX0_about_6 8 rfl rfl)
theorem dX0_about_161 : decode cX0_about 161 = .ok (.getfield 288, 3) := dk_180 1 32 (dk_at dksX0_about_6 11 rfl rfl)
theorem dX0_about_164 : decode cX0_about 164 = .ok (.ireturn, 1) := dk_172 (dk_at dksX0_about_6 14 rfl rfl)
theorem dX0_about_165 : decode cX0_about 165 = .ok (.aload_n 0, 1) := dk_42 (dk_at dksX0_about_6 15 rfl rfl)
theorem dX0_about_166 : decode cX0_about 166 = .ok (.getfield 179, 3) := dk_180 0 179 (dk_at dksX0_about_6 16 rfl rfl)
theorem dX0_about_169 : decode cX0_about 169 = .ok (.ireturn, 1) := dk_172 (dk_at dksX0_about_6 19 rfl rfl)
theorem dX0_about_170 : decode cX0_about 170 = .ok (.bipush (-2), 2) := dk_16 254 (dk_at dksX0_about_6 20 rfl rfl)
theorem dX0_about_172 : decode cX0_about 172 = .ok (.ireturn, 1) := dk_172 (dk_at dksX0_about_6 22 rfl rfl)
theorem q74 : (Jvm.Cond.initialized "SpoonScales") ∈ lw_all := lw_g (lw_at lw_m1 1 rfl) rfl
theorem q105 : (Jvm.Cond.instantiable "SpoonScales" (14 : Nat)) ∈ lw_all := lw_g (lw_at lw_m1 32 rfl) rfl
theorem q107 : (Jvm.Cond.instanceMethod ({ cls := "SpoonScales", name := "<init>", desc := "()V" } : Jvm.MethodName)) ∈ lw_all := lw_g (lw_at lw_m1 34 rfl) rfl
theorem q108 : (Jvm.Cond.code ({ cls := "SpoonScales", name := "<init>", desc := "()V" } : Jvm.MethodName) prog_1_method_2_code (1 : Nat) (Option.none : Option Jvm.ClassFile.FieldType)) ∈ lw_all := lw_g (lw_at lw_m1 35 rfl) rfl
theorem q109 : (Jvm.Cond.methodLink "SpoonScales" (3 : Nat) ({ cls := "java/lang/Object", name := "<init>", desc := "()V" } : Jvm.MethodName)) ∈ lw_all := lw_g (lw_at lw_m1 36 rfl) rfl
theorem q112 : (Jvm.Cond.classLink "SpoonScales" (9 : Nat) "SpoonScales$Court") ∈ lw_all := lw_g (lw_at lw_m1 39 rfl) rfl
theorem q114 : (Jvm.Cond.methodLink "SpoonScales" (11 : Nat) ({ cls := "SpoonScales$Court", name := "<init>", desc := "()V" } : Jvm.MethodName)) ∈ lw_all := lw_g (lw_at lw_m1 41 rfl) rfl
theorem q121 : (Jvm.Cond.fieldLinkNest "SpoonScales" (63 : Nat) "SpoonScales$Court" "eaters" "I" "SpoonScales") ∈ lw_tbl := lw_at lw_m1 48 rfl
theorem q123 : (Jvm.Cond.fieldLinkNest "SpoonScales" (186 : Nat) "SpoonScales$Court" "texts" "I" "SpoonScales") ∈ lw_tbl := lw_at lw_m1 50 rfl
theorem q125 : (Jvm.Cond.fieldLinkNest "SpoonScales" (60 : Nat) "SpoonScales$Court" "text" "I" "SpoonScales") ∈ lw_tbl := lw_at lw_m1 52 rfl
theorem q127 : (Jvm.Cond.fieldLinkNest "SpoonScales" (173 : Nat) "SpoonScales$Court" "steps" "I" "SpoonScales") ∈ lw_tbl := lw_at lw_m1 54 rfl
theorem q129 : (Jvm.Cond.fieldLinkNest "SpoonScales" (254 : Nat) "SpoonScales$Court" "tests" "I" "SpoonScales") ∈ lw_tbl := lw_at lw_m1 56 rfl
theorem q131 : (Jvm.Cond.fieldLinkNest "SpoonScales" (288 : Nat) "SpoonScales$Court" "tells" "I" "SpoonScales") ∈ lw_tbl := lw_at lw_m1 58 rfl
theorem q133 : (Jvm.Cond.fieldLinkNest "SpoonScales" (80 : Nat) "SpoonScales$Court" "hunger" "[I" "SpoonScales") ∈ lw_tbl := lw_at lw_m1 60 rfl
theorem q135 : (Jvm.Cond.fieldLinkNest "SpoonScales" (83 : Nat) "SpoonScales$Court" "stomachs" "[I" "SpoonScales") ∈ lw_tbl := lw_at lw_m1 62 rfl
theorem q137 : (Jvm.Cond.fieldLinkNest "SpoonScales" (86 : Nat) "SpoonScales$Court" "price" "[I" "SpoonScales") ∈ lw_tbl := lw_at lw_m1 64 rfl
theorem q139 : (Jvm.Cond.fieldLinkNest "SpoonScales" (77 : Nat) "SpoonScales$Court" "now" "[I" "SpoonScales") ∈ lw_tbl := lw_at lw_m1 66 rfl
theorem q143 : (Jvm.Cond.fieldLinkNest "SpoonScales" (156 : Nat) "SpoonScales$Court" "spoon" "[[I" "SpoonScales") ∈ lw_tbl := lw_at lw_m1 70 rfl
theorem q145 : (Jvm.Cond.fieldLinkNest "SpoonScales" (166 : Nat) "SpoonScales$Court" "dent" "[[I" "SpoonScales") ∈ lw_tbl := lw_at lw_m1 72 rfl
theorem q147 : (Jvm.Cond.fieldLinkNest "SpoonScales" (257 : Nat) "SpoonScales$Court" "test" "[[I" "SpoonScales") ∈ lw_tbl := lw_at lw_m1 74 rfl
theorem q149 : (Jvm.Cond.fieldLinkNest "SpoonScales" (291 : Nat) "SpoonScales$Court" "tell" "[[I" "SpoonScales") ∈ lw_tbl := lw_at lw_m1 76 rfl
theorem q184 : (Jvm.Cond.classLink "SpoonScales" (19 : Nat) "SpoonScales$Law") ∈ lw_all := lw_g (lw_at lw_m1 111 rfl) rfl
theorem q187 : (Jvm.Cond.methodLinkNest "SpoonScales" (25 : Nat) ({ cls := "SpoonScales$Law", name := "<init>", desc := "()V" } : Jvm.MethodName) "SpoonScales") ∈ lw_tbl := lw_at lw_m1 114 rfl
theorem q196 : (Jvm.Cond.fieldLinkNest "SpoonScales" (93 : Nat) "SpoonScales$Law" "sums" "[LSpoonScales$Sum;" "SpoonScales") ∈ lw_tbl := lw_at lw_m1 123 rfl
theorem q199 : (Jvm.Cond.fieldLinkNest "SpoonScales" (136 : Nat) "SpoonScales$Law" "guilty" "LSpoonScales$Ask;" "SpoonScales") ∈ lw_tbl := lw_at lw_m1 126 rfl
theorem q202 : (Jvm.Cond.fieldLinkNest "SpoonScales" (208 : Nat) "SpoonScales$Law" "lines" "[LSpoonScales$Line;" "SpoonScales") ∈ lw_tbl := lw_at lw_m1 129 rfl
theorem q204 : (Jvm.Cond.fieldLinkNest "SpoonScales" (205 : Nat) "SpoonScales$Law" "clauses" "I" "SpoonScales") ∈ lw_tbl := lw_at lw_m1 131 rfl
theorem q214 : (Jvm.Cond.classLink "SpoonScales" (30 : Nat) "SpoonScales$Moment") ∈ lw_all := lw_g (lw_at lw_m1 141 rfl) rfl
theorem q216 : (Jvm.Cond.methodLinkNest "SpoonScales" (32 : Nat) ({ cls := "SpoonScales$Moment", name := "<init>", desc := "()V" } : Jvm.MethodName) "SpoonScales") ∈ lw_tbl := lw_at lw_m1 143 rfl
theorem q224 : (Jvm.Cond.fieldLinkNest "SpoonScales" (112 : Nat) "SpoonScales$Moment" "values" "[I" "SpoonScales") ∈ lw_tbl := lw_at lw_m1 151 rfl
theorem q228 : (Jvm.Cond.classLink "SpoonScales" (48 : Nat) "[[I") ∈ lw_all := lw_g (lw_at lw_m1 155 rfl) rfl
theorem q229 : (Jvm.Cond.fieldLink "SpoonScales" (12 : Nat) "SpoonScales" "here" "LSpoonScales$Court;") ∈ lw_all := lw_g (lw_at lw_m1 156 rfl) rfl
theorem q230 : (Jvm.Cond.fieldLink "SpoonScales" (16 : Nat) "SpoonScales" "image" "LSpoonScales$Court;") ∈ lw_all := lw_g (lw_at lw_m1 157 rfl) rfl
theorem q231 : (Jvm.Cond.fieldLink "SpoonScales" (21 : Nat) "SpoonScales" "laws" "[LSpoonScales$Law;") ∈ lw_all := lw_g (lw_at lw_m1 158 rfl) rfl
theorem q232 : (Jvm.Cond.fieldLink "SpoonScales" (26 : Nat) "SpoonScales" "plain" "LSpoonScales$Law;") ∈ lw_all := lw_g (lw_at lw_m1 159 rfl) rfl
theorem q233 : (Jvm.Cond.fieldLink "SpoonScales" (33 : Nat) "SpoonScales" "moment" "LSpoonScales$Moment;") ∈ lw_all := lw_g (lw_at lw_m1 160 rfl) rfl
theorem q234 : (Jvm.Cond.fieldLink "SpoonScales" (37 : Nat) "SpoonScales" "tape" "[B") ∈ lw_all := lw_g (lw_at lw_m1 161 rfl) rfl
theorem q235 : (Jvm.Cond.fieldLink "SpoonScales" (179 : Nat) "SpoonScales" "taped" "I") ∈ lw_all := lw_g (lw_at lw_m1 162 rfl) rfl
theorem q236 : (Jvm.Cond.fieldLink "SpoonScales" (41 : Nat) "SpoonScales" "fault" "I") ∈ lw_all := lw_g (lw_at lw_m1 163 rfl) rfl
theorem q237 : (Jvm.Cond.fieldLink "SpoonScales" (45 : Nat) "SpoonScales" "faultPlace" "I") ∈ lw_all := lw_g (lw_at lw_m1 164 rfl) rfl
theorem q238 : (Jvm.Cond.fieldLink "SpoonScales" (50 : Nat) "SpoonScales" "rows" "[[I") ∈ lw_all := lw_g (lw_at lw_m1 165 rfl) rfl
theorem q239 : (Jvm.Cond.fieldLink "SpoonScales" (53 : Nat) "SpoonScales" "called" "[I") ∈ lw_all := lw_g (lw_at lw_m1 166 rfl) rfl
theorem q240 : (Jvm.Cond.fieldLink "SpoonScales" (57 : Nat) "SpoonScales" "best" "[I") ∈ lw_all := lw_g (lw_at lw_m1 167 rfl) rfl
theorem q241 : (Jvm.Cond.fieldLink "SpoonScales" (221 : Nat) "SpoonScales" "bestTilt" "I") ∈ lw_all := lw_g (lw_at lw_m1 168 rfl) rfl
theorem q242 : (Jvm.Cond.fieldLink "SpoonScales" (243 : Nat) "SpoonScales" "bestHoney" "I") ∈ lw_all := lw_g (lw_at lw_m1 169 rfl) rfl
theorem q243 : (Jvm.Cond.laysFinal "SpoonScales" "SpoonScales" "here" "LSpoonScales$Court;") ∈ lw_all := lw_g (lw_at lw_m1 170 rfl) rfl
theorem q244 : (Jvm.Cond.soleField "SpoonScales" "here") ∈ lw_all := lw_g (lw_at lw_m1 171 rfl) rfl
theorem q245 : (Jvm.Cond.laysFinal "SpoonScales" "SpoonScales" "image" "LSpoonScales$Court;") ∈ lw_all := lw_g (lw_at lw_m1 172 rfl) rfl
theorem q246 : (Jvm.Cond.soleField "SpoonScales" "image") ∈ lw_all := lw_g (lw_at lw_m1 173 rfl) rfl
theorem q247 : (Jvm.Cond.laysFinal "SpoonScales" "SpoonScales" "laws" "[LSpoonScales$Law;") ∈ lw_all := lw_g (lw_at lw_m1 174 rfl) rfl
theorem q248 : (Jvm.Cond.soleField "SpoonScales" "laws") ∈ lw_all := lw_g (lw_at lw_m1 175 rfl) rfl
theorem q249 : (Jvm.Cond.laysFinal "SpoonScales" "SpoonScales" "plain" "LSpoonScales$Law;") ∈ lw_all := lw_g (lw_at lw_m1 176 rfl) rfl
theorem q250 : (Jvm.Cond.soleField "SpoonScales" "plain") ∈ lw_all := lw_g (lw_at lw_m1 177 rfl) rfl
theorem q251 : (Jvm.Cond.laysFinal "SpoonScales" "SpoonScales" "moment" "LSpoonScales$Moment;") ∈ lw_all := lw_g (lw_at lw_m1 178 rfl) rfl
theorem q252 : (Jvm.Cond.soleField "SpoonScales" "moment") ∈ lw_all := lw_g (lw_at lw_m1 179 rfl) rfl
theorem q253 : (Jvm.Cond.laysFinal "SpoonScales" "SpoonScales" "tape" "[B") ∈ lw_all := lw_g (lw_at lw_m1 180 rfl) rfl
theorem q254 : (Jvm.Cond.soleField "SpoonScales" "tape") ∈ lw_all := lw_g (lw_at lw_m1 181 rfl) rfl
theorem q255 : (Jvm.Cond.lays "SpoonScales" "SpoonScales" "taped" "I") ∈ lw_all := lw_g (lw_at lw_m1 182 rfl) rfl
theorem q256 : (Jvm.Cond.soleField "SpoonScales" "taped") ∈ lw_all := lw_g (lw_at lw_m1 183 rfl) rfl
theorem q257 : (Jvm.Cond.lays "SpoonScales" "SpoonScales" "fault" "I") ∈ lw_all := lw_g (lw_at lw_m1 184 rfl) rfl
theorem q258 : (Jvm.Cond.soleField "SpoonScales" "fault") ∈ lw_all := lw_g (lw_at lw_m1 185 rfl) rfl
theorem q259 : (Jvm.Cond.lays "SpoonScales" "SpoonScales" "faultPlace" "I") ∈ lw_all := lw_g (lw_at lw_m1 186 rfl) rfl
theorem q260 : (Jvm.Cond.soleField "SpoonScales" "faultPlace") ∈ lw_all := lw_g (lw_at lw_m1 187 rfl) rfl
theorem q261 : (Jvm.Cond.laysFinal "SpoonScales" "SpoonScales" "rows" "[[I") ∈ lw_all := lw_g (lw_at lw_m1 188 rfl) rfl
theorem q262 : (Jvm.Cond.soleField "SpoonScales" "rows") ∈ lw_all := lw_g (lw_at lw_m1 189 rfl) rfl
theorem q263 : (Jvm.Cond.laysFinal "SpoonScales" "SpoonScales" "called" "[I") ∈ lw_all := lw_g (lw_at lw_m1 190 rfl) rfl
theorem q264 : (Jvm.Cond.soleField "SpoonScales" "called") ∈ lw_all := lw_g (lw_at lw_m1 191 rfl) rfl
theorem q265 : (Jvm.Cond.laysFinal "SpoonScales" "SpoonScales" "best" "[I") ∈ lw_all := lw_g (lw_at lw_m1 192 rfl) rfl
theorem q266 : (Jvm.Cond.soleField "SpoonScales" "best") ∈ lw_all := lw_g (lw_at lw_m1 193 rfl) rfl
theorem q267 : (Jvm.Cond.lays "SpoonScales" "SpoonScales" "bestTilt" "I") ∈ lw_all := lw_g (lw_at lw_m1 194 rfl) rfl
theorem q268 : (Jvm.Cond.soleField "SpoonScales" "bestTilt") ∈ lw_all := lw_g (lw_at lw_m1 195 rfl) rfl
theorem q269 : (Jvm.Cond.lays "SpoonScales" "SpoonScales" "bestHoney" "I") ∈ lw_all := lw_g (lw_at lw_m1 196 rfl) rfl
theorem q270 : (Jvm.Cond.soleField "SpoonScales" "bestHoney") ∈ lw_all := lw_g (lw_at lw_m1 197 rfl) rfl
theorem q271 : (Jvm.Cond.superclass "SpoonScales" "java/lang/Object") ∈ lw_all := lw_g (lw_at lw_m1 198 rfl) rfl
theorem q274 : (Jvm.Cond.instanceMethod ({ cls := "SpoonScales", name := "pot", desc := "(III)Z" } : Jvm.MethodName)) ∈ lw_all := lw_g (lw_at lw_m1 201 rfl) rfl
theorem q275 : (Jvm.Cond.selects "SpoonScales" ({ cls := "SpoonScales", name := "pot", desc := "(III)Z" } : Jvm.MethodName) ({ cls := "SpoonScales", name := "pot", desc := "(III)Z" } : Jvm.MethodName)) ∈ lw_all := lw_g (lw_at lw_m1 202 rfl) rfl
theorem q276 : (Jvm.Cond.code ({ cls := "SpoonScales", name := "pot", desc := "(III)Z" } : Jvm.MethodName) prog_1_method_7_code (4 : Nat) (Option.some Jvm.ClassFile.FieldType.boolean)) ∈ lw_all := lw_g (lw_at lw_m1 203 rfl) rfl
theorem q277 : (Jvm.Cond.methodLink "SpoonScales" (70 : Nat) ({ cls := "SpoonScales", name := "isSide", desc := "(I)Z" } : Jvm.MethodName)) ∈ lw_all := lw_g (lw_at lw_m1 204 rfl) rfl
theorem q278 : (Jvm.Cond.static ({ cls := "SpoonScales", name := "isSide", desc := "(I)Z" } : Jvm.MethodName)) ∈ lw_all := lw_g (lw_at lw_m1 205 rfl) rfl
theorem q279 : (Jvm.Cond.code ({ cls := "SpoonScales", name := "isSide", desc := "(I)Z" } : Jvm.MethodName) prog_1_method_5_code (1 : Nat) (Option.some Jvm.ClassFile.FieldType.boolean)) ∈ lw_all := lw_g (lw_at lw_m1 206 rfl) rfl
theorem q280 : (Jvm.Cond.methodLink "SpoonScales" (66 : Nat) ({ cls := "SpoonScales", name := "in", desc := "(III)Z" } : Jvm.MethodName)) ∈ lw_all := lw_g (lw_at lw_m1 207 rfl) rfl
theorem q281 : (Jvm.Cond.static ({ cls := "SpoonScales", name := "in", desc := "(III)Z" } : Jvm.MethodName)) ∈ lw_all := lw_g (lw_at lw_m1 208 rfl) rfl
theorem q282 : (Jvm.Cond.code ({ cls := "SpoonScales", name := "in", desc := "(III)Z" } : Jvm.MethodName) prog_1_method_1_code (3 : Nat) (Option.some Jvm.ClassFile.FieldType.boolean)) ∈ lw_all := lw_g (lw_at lw_m1 209 rfl) rfl
theorem q283 : (Jvm.Cond.methodLink "SpoonScales" (74 : Nat) ({ cls := "SpoonScales", name := "isKind", desc := "(I)Z" } : Jvm.MethodName)) ∈ lw_all := lw_g (lw_at lw_m1 210 rfl) rfl
theorem q284 : (Jvm.Cond.static ({ cls := "SpoonScales", name := "isKind", desc := "(I)Z" } : Jvm.MethodName)) ∈ lw_all := lw_g (lw_at lw_m1 211 rfl) rfl
theorem q285 : (Jvm.Cond.code ({ cls := "SpoonScales", name := "isKind", desc := "(I)Z" } : Jvm.MethodName) prog_1_method_6_code (1 : Nat) (Option.some Jvm.ClassFile.FieldType.boolean)) ∈ lw_all := lw_g (lw_at lw_m1 212 rfl) rfl
theorem q287 : (Jvm.Cond.instanceMethod ({ cls := "SpoonScales", name := "eater", desc := "(III)I" } : Jvm.MethodName)) ∈ lw_all := lw_g (lw_at lw_m1 214 rfl) rfl
theorem q288 : (Jvm.Cond.selects "SpoonScales" ({ cls := "SpoonScales", name := "eater", desc := "(III)I" } : Jvm.MethodName) ({ cls := "SpoonScales", name := "eater", desc := "(III)I" } : Jvm.MethodName)) ∈ lw_all := lw_g (lw_at lw_m1 215 rfl) rfl
theorem q289 : (Jvm.Cond.code ({ cls := "SpoonScales", name := "eater", desc := "(III)I" } : Jvm.MethodName) prog_1_method_8_code (5 : Nat) (Option.some Jvm.ClassFile.FieldType.int)) ∈ lw_all := lw_g (lw_at lw_m1 216 rfl) rfl
theorem q291 : (Jvm.Cond.instanceMethod ({ cls := "SpoonScales", name := "seed", desc := "(I)Z" } : Jvm.MethodName)) ∈ lw_all := lw_g (lw_at lw_m1 218 rfl) rfl
theorem q292 : (Jvm.Cond.selects "SpoonScales" ({ cls := "SpoonScales", name := "seed", desc := "(I)Z" } : Jvm.MethodName) ({ cls := "SpoonScales", name := "seed", desc := "(I)Z" } : Jvm.MethodName)) ∈ lw_all := lw_g (lw_at lw_m1 219 rfl) rfl
theorem q293 : (Jvm.Cond.code ({ cls := "SpoonScales", name := "seed", desc := "(I)Z" } : Jvm.MethodName) prog_1_method_9_code (2 : Nat) (Option.some Jvm.ClassFile.FieldType.boolean)) ∈ lw_all := lw_g (lw_at lw_m1 220 rfl) rfl
theorem q295 : (Jvm.Cond.instanceMethod ({ cls := "SpoonScales", name := "sit", desc := "(II)Z" } : Jvm.MethodName)) ∈ lw_all := lw_g (lw_at lw_m1 222 rfl) rfl
theorem q296 : (Jvm.Cond.selects "SpoonScales" ({ cls := "SpoonScales", name := "sit", desc := "(II)Z" } : Jvm.MethodName) ({ cls := "SpoonScales", name := "sit", desc := "(II)Z" } : Jvm.MethodName)) ∈ lw_all := lw_g (lw_at lw_m1 223 rfl) rfl
theorem q297 : (Jvm.Cond.code ({ cls := "SpoonScales", name := "sit", desc := "(II)Z" } : Jvm.MethodName) prog_1_method_17_code (3 : Nat) (Option.some Jvm.ClassFile.FieldType.boolean)) ∈ lw_all := lw_g (lw_at lw_m1 224 rfl) rfl
theorem q298 : (Jvm.Cond.methodLink "SpoonScales" (150 : Nat) ({ cls := "SpoonScales", name := "isEater", desc := "(I)Z" } : Jvm.MethodName)) ∈ lw_all := lw_g (lw_at lw_m1 225 rfl) rfl
theorem q299 : (Jvm.Cond.privateMethod ({ cls := "SpoonScales", name := "isEater", desc := "(I)Z" } : Jvm.MethodName)) ∈ lw_tbl := lw_at lw_m1 226 rfl
theorem q300 : (Jvm.Cond.instanceMethod ({ cls := "SpoonScales", name := "isEater", desc := "(I)Z" } : Jvm.MethodName)) ∈ lw_all := lw_g (lw_at lw_m1 227 rfl) rfl
theorem q301 : (Jvm.Cond.code ({ cls := "SpoonScales", name := "isEater", desc := "(I)Z" } : Jvm.MethodName) prog_1_method_4_code (2 : Nat) (Option.some Jvm.ClassFile.FieldType.boolean)) ∈ lw_all := lw_g (lw_at lw_m1 228 rfl) rfl
theorem q302 : (Jvm.Cond.methodLink "SpoonScales" (153 : Nat) ({ cls := "SpoonScales$Court", name := "keep", desc := "()V" } : Jvm.MethodName)) ∈ lw_all := lw_g (lw_at lw_m1 229 rfl) rfl
theorem q313 : (Jvm.Cond.instanceMethod ({ cls := "SpoonScales", name := "spoon", desc := "(II)I" } : Jvm.MethodName)) ∈ lw_all := lw_g (lw_at lw_m2 0 rfl) rfl
theorem q314 : (Jvm.Cond.selects "SpoonScales" ({ cls := "SpoonScales", name := "spoon", desc := "(II)I" } : Jvm.MethodName) ({ cls := "SpoonScales", name := "spoon", desc := "(II)I" } : Jvm.MethodName)) ∈ lw_all := lw_g (lw_at lw_m2 1 rfl) rfl
theorem q315 : (Jvm.Cond.code ({ cls := "SpoonScales", name := "spoon", desc := "(II)I" } : Jvm.MethodName) prog_1_method_18_code (4 : Nat) (Option.some Jvm.ClassFile.FieldType.int)) ∈ lw_all := lw_g (lw_at lw_m2 2 rfl) rfl
theorem q316 : (Jvm.Cond.methodLink "SpoonScales" (146 : Nat) ({ cls := "SpoonScales", name := "spoonOf", desc := "([III)I" } : Jvm.MethodName)) ∈ lw_all := lw_g (lw_at lw_m2 3 rfl) rfl
theorem q317 : (Jvm.Cond.privateMethod ({ cls := "SpoonScales", name := "spoonOf", desc := "([III)I" } : Jvm.MethodName)) ∈ lw_tbl := lw_at lw_m2 4 rfl
theorem q318 : (Jvm.Cond.instanceMethod ({ cls := "SpoonScales", name := "spoonOf", desc := "([III)I" } : Jvm.MethodName)) ∈ lw_all := lw_g (lw_at lw_m2 5 rfl) rfl
theorem q319 : (Jvm.Cond.code ({ cls := "SpoonScales", name := "spoonOf", desc := "([III)I" } : Jvm.MethodName) prog_1_method_13_code (8 : Nat) (Option.some Jvm.ClassFile.FieldType.int)) ∈ lw_all := lw_g (lw_at lw_m2 6 rfl) rfl
theorem q320 : (Jvm.Cond.methodLink "SpoonScales" (115 : Nat) ({ cls := "SpoonScales", name := "name", desc := "([II)V" } : Jvm.MethodName)) ∈ lw_all := lw_g (lw_at lw_m2 7 rfl) rfl
theorem q321 : (Jvm.Cond.privateMethod ({ cls := "SpoonScales", name := "name", desc := "([II)V" } : Jvm.MethodName)) ∈ lw_tbl := lw_at lw_m2 8 rfl
theorem q322 : (Jvm.Cond.instanceMethod ({ cls := "SpoonScales", name := "name", desc := "([II)V" } : Jvm.MethodName)) ∈ lw_all := lw_g (lw_at lw_m2 9 rfl) rfl
theorem q323 : (Jvm.Cond.code ({ cls := "SpoonScales", name := "name", desc := "([II)V" } : Jvm.MethodName) prog_1_method_11_code (4 : Nat) (Option.none : Option Jvm.ClassFile.FieldType)) ∈ lw_all := lw_g (lw_at lw_m2 10 rfl) rfl
theorem q324 : (Jvm.Cond.methodLink "SpoonScales" (119 : Nat) ({ cls := "SpoonScales", name := "told", desc := "(III)I" } : Jvm.MethodName)) ∈ lw_all := lw_g (lw_at lw_m2 11 rfl) rfl
theorem q325 : (Jvm.Cond.privateMethod ({ cls := "SpoonScales", name := "told", desc := "(III)I" } : Jvm.MethodName)) ∈ lw_tbl := lw_at lw_m2 12 rfl
theorem q326 : (Jvm.Cond.instanceMethod ({ cls := "SpoonScales", name := "told", desc := "(III)I" } : Jvm.MethodName)) ∈ lw_all := lw_g (lw_at lw_m2 13 rfl) rfl
theorem q327 : (Jvm.Cond.code ({ cls := "SpoonScales", name := "told", desc := "(III)I" } : Jvm.MethodName) prog_1_method_10_code (5 : Nat) (Option.some Jvm.ClassFile.FieldType.int)) ∈ lw_all := lw_g (lw_at lw_m2 14 rfl) rfl
theorem q328 : (Jvm.Cond.methodLink "SpoonScales" (89 : Nat) ({ cls := "SpoonScales", name := "law", desc := "()LSpoonScales$Law;" } : Jvm.MethodName)) ∈ lw_all := lw_g (lw_at lw_m2 15 rfl) rfl
theorem q329 : (Jvm.Cond.privateMethod ({ cls := "SpoonScales", name := "law", desc := "()LSpoonScales$Law;" } : Jvm.MethodName)) ∈ lw_tbl := lw_at lw_m2 16 rfl
theorem q330 : (Jvm.Cond.instanceMethod ({ cls := "SpoonScales", name := "law", desc := "()LSpoonScales$Law;" } : Jvm.MethodName)) ∈ lw_all := lw_g (lw_at lw_m2 17 rfl) rfl
theorem q331 : (Jvm.Cond.code ({ cls := "SpoonScales", name := "law", desc := "()LSpoonScales$Law;" } : Jvm.MethodName) prog_1_method_3_code (1 : Nat) (Option.some (Jvm.ClassFile.FieldType.object "SpoonScales$Law"))) ∈ lw_all := lw_g (lw_at lw_m2 18 rfl) rfl
theorem q332 : (Jvm.Cond.interfaceEntry "SpoonScales" (97 : Nat)) ∈ lw_tbl := lw_at lw_m2 19 rfl
theorem q333 : (Jvm.Cond.methodLink "SpoonScales" (97 : Nat) ({ cls := "SpoonScales$Sum", name := "of", desc := "(LSpoonScales$View;)J" } : Jvm.MethodName)) ∈ lw_all := lw_g (lw_at lw_m2 20 rfl) rfl
theorem q378 : (Jvm.Cond.methodLink "SpoonScales" (103 : Nat) ({ cls := "java/lang/Math", name := "min", desc := "(JJ)J" } : Jvm.MethodName)) ∈ lw_all := lw_g (lw_at lw_m2 65 rfl) rfl
theorem q381 : (Jvm.Cond.methodLink "SpoonScales" (109 : Nat) ({ cls := "java/lang/Math", name := "max", desc := "(JJ)J" } : Jvm.MethodName)) ∈ lw_all := lw_g (lw_at lw_m2 68 rfl) rfl
theorem q384 : (Jvm.Cond.methodLink "SpoonScales" (126 : Nat) ({ cls := "java/lang/Math", name := "min", desc := "(II)I" } : Jvm.MethodName)) ∈ lw_all := lw_g (lw_at lw_m2 71 rfl) rfl
theorem q387 : (Jvm.Cond.methodLink "SpoonScales" (128 : Nat) ({ cls := "SpoonScales", name := "holds", desc := "([II)I" } : Jvm.MethodName)) ∈ lw_all := lw_g (lw_at lw_m2 74 rfl) rfl
theorem q388 : (Jvm.Cond.privateMethod ({ cls := "SpoonScales", name := "holds", desc := "([II)I" } : Jvm.MethodName)) ∈ lw_tbl := lw_at lw_m2 75 rfl
theorem q389 : (Jvm.Cond.instanceMethod ({ cls := "SpoonScales", name := "holds", desc := "([II)I" } : Jvm.MethodName)) ∈ lw_all := lw_g (lw_at lw_m2 76 rfl) rfl
theorem q390 : (Jvm.Cond.code ({ cls := "SpoonScales", name := "holds", desc := "([II)I" } : Jvm.MethodName) prog_1_method_12_code (3 : Nat) (Option.some Jvm.ClassFile.FieldType.int)) ∈ lw_all := lw_g (lw_at lw_m2 77 rfl) rfl
theorem q391 : (Jvm.Cond.methodLink "SpoonScales" (123 : Nat) ({ cls := "java/lang/Math", name := "max", desc := "(II)I" } : Jvm.MethodName)) ∈ lw_all := lw_g (lw_at lw_m2 78 rfl) rfl
theorem q394 : (Jvm.Cond.methodLink "SpoonScales" (159 : Nat) ({ cls := "SpoonScales", name := "eat", desc := "([III)I" } : Jvm.MethodName)) ∈ lw_all := lw_g (lw_at lw_m2 81 rfl) rfl
theorem q395 : (Jvm.Cond.privateMethod ({ cls := "SpoonScales", name := "eat", desc := "([III)I" } : Jvm.MethodName)) ∈ lw_tbl := lw_at lw_m2 82 rfl
theorem q396 : (Jvm.Cond.instanceMethod ({ cls := "SpoonScales", name := "eat", desc := "([III)I" } : Jvm.MethodName)) ∈ lw_all := lw_g (lw_at lw_m2 83 rfl) rfl
theorem q397 : (Jvm.Cond.code ({ cls := "SpoonScales", name := "eat", desc := "([III)I" } : Jvm.MethodName) prog_1_method_16_code (5 : Nat) (Option.some Jvm.ClassFile.FieldType.int)) ∈ lw_all := lw_g (lw_at lw_m2 84 rfl) rfl
theorem q399 : (Jvm.Cond.instanceMethod ({ cls := "SpoonScales", name := "judge", desc := "(I)I" } : Jvm.MethodName)) ∈ lw_all := lw_g (lw_at lw_m2 86 rfl) rfl
theorem q400 : (Jvm.Cond.selects "SpoonScales" ({ cls := "SpoonScales", name := "judge", desc := "(I)I" } : Jvm.MethodName) ({ cls := "SpoonScales", name := "judge", desc := "(I)I" } : Jvm.MethodName)) ∈ lw_all := lw_g (lw_at lw_m2 87 rfl) rfl
theorem q401 : (Jvm.Cond.code ({ cls := "SpoonScales", name := "judge", desc := "(I)I" } : Jvm.MethodName) prog_1_method_19_code (4 : Nat) (Option.some Jvm.ClassFile.FieldType.int)) ∈ lw_all := lw_g (lw_at lw_m2 88 rfl) rfl
theorem q402 : (Jvm.Cond.methodLink "SpoonScales" (162 : Nat) ({ cls := "SpoonScales", name := "isGuilty", desc := "([II)Z" } : Jvm.MethodName)) ∈ lw_all := lw_g (lw_at lw_m2 89 rfl) rfl
theorem q403 : (Jvm.Cond.privateMethod ({ cls := "SpoonScales", name := "isGuilty", desc := "([II)Z" } : Jvm.MethodName)) ∈ lw_tbl := lw_at lw_m2 90 rfl
theorem q404 : (Jvm.Cond.instanceMethod ({ cls := "SpoonScales", name := "isGuilty", desc := "([II)Z" } : Jvm.MethodName)) ∈ lw_all := lw_g (lw_at lw_m2 91 rfl) rfl
theorem q405 : (Jvm.Cond.code ({ cls := "SpoonScales", name := "isGuilty", desc := "([II)Z" } : Jvm.MethodName) prog_1_method_15_code (5 : Nat) (Option.some Jvm.ClassFile.FieldType.boolean)) ∈ lw_all := lw_g (lw_at lw_m2 92 rfl) rfl
theorem q406 : (Jvm.Cond.methodLink "SpoonScales" (132 : Nat) ({ cls := "SpoonScales", name := "tiltOf", desc := "([I)I" } : Jvm.MethodName)) ∈ lw_all := lw_g (lw_at lw_m2 93 rfl) rfl
theorem q407 : (Jvm.Cond.static ({ cls := "SpoonScales", name := "tiltOf", desc := "([I)I" } : Jvm.MethodName)) ∈ lw_all := lw_g (lw_at lw_m2 94 rfl) rfl
theorem q408 : (Jvm.Cond.code ({ cls := "SpoonScales", name := "tiltOf", desc := "([I)I" } : Jvm.MethodName) prog_1_method_14_code (1 : Nat) (Option.some Jvm.ClassFile.FieldType.int)) ∈ lw_all := lw_g (lw_at lw_m2 95 rfl) rfl
theorem q409 : (Jvm.Cond.interfaceEntry "SpoonScales" (140 : Nat)) ∈ lw_tbl := lw_at lw_m2 96 rfl
theorem q410 : (Jvm.Cond.methodLink "SpoonScales" (140 : Nat) ({ cls := "SpoonScales$Ask", name := "is", desc := "(LSpoonScales$View;)Z" } : Jvm.MethodName)) ∈ lw_all := lw_g (lw_at lw_m2 97 rfl) rfl
theorem q438 : (Jvm.Cond.instanceMethod ({ cls := "SpoonScales", name := "flies", desc := "(I)I" } : Jvm.MethodName)) ∈ lw_all := lw_g (lw_at lw_m2 125 rfl) rfl
theorem q439 : (Jvm.Cond.selects "SpoonScales" ({ cls := "SpoonScales", name := "flies", desc := "(I)I" } : Jvm.MethodName) ({ cls := "SpoonScales", name := "flies", desc := "(I)I" } : Jvm.MethodName)) ∈ lw_all := lw_g (lw_at lw_m2 126 rfl) rfl
theorem q440 : (Jvm.Cond.code ({ cls := "SpoonScales", name := "flies", desc := "(I)I" } : Jvm.MethodName) prog_1_method_20_code (5 : Nat) (Option.some Jvm.ClassFile.FieldType.int)) ∈ lw_all := lw_g (lw_at lw_m2 127 rfl) rfl
theorem q441 : (Jvm.Cond.methodLink "SpoonScales" (169 : Nat) ({ cls := "SpoonScales$Court", name := "draw", desc := "(I)I" } : Jvm.MethodName)) ∈ lw_all := lw_g (lw_at lw_m2 128 rfl) rfl
theorem q449 : (Jvm.Cond.instanceMethod ({ cls := "SpoonScales", name := "undo", desc := "()I" } : Jvm.MethodName)) ∈ lw_all := lw_g (lw_at lw_m2 136 rfl) rfl
theorem q450 : (Jvm.Cond.selects "SpoonScales" ({ cls := "SpoonScales", name := "undo", desc := "()I" } : Jvm.MethodName) ({ cls := "SpoonScales", name := "undo", desc := "()I" } : Jvm.MethodName)) ∈ lw_all := lw_g (lw_at lw_m2 137 rfl) rfl
theorem q451 : (Jvm.Cond.code ({ cls := "SpoonScales", name := "undo", desc := "()I" } : Jvm.MethodName) prog_1_method_21_code (1 : Nat) (Option.some Jvm.ClassFile.FieldType.int)) ∈ lw_all := lw_g (lw_at lw_m2 138 rfl) rfl
theorem q452 : (Jvm.Cond.methodLink "SpoonScales" (176 : Nat) ({ cls := "SpoonScales$Court", name := "takeBack", desc := "()V" } : Jvm.MethodName)) ∈ lw_all := lw_g (lw_at lw_m2 139 rfl) rfl
theorem q457 : (Jvm.Cond.instanceMethod ({ cls := "SpoonScales", name := "feed", desc := "(IIIII)I" } : Jvm.MethodName)) ∈ lw_all := lw_g (lw_at lw_m2 144 rfl) rfl
theorem q458 : (Jvm.Cond.selects "SpoonScales" ({ cls := "SpoonScales", name := "feed", desc := "(IIIII)I" } : Jvm.MethodName) ({ cls := "SpoonScales", name := "feed", desc := "(IIIII)I" } : Jvm.MethodName)) ∈ lw_all := lw_g (lw_at lw_m2 145 rfl) rfl
theorem q459 : (Jvm.Cond.code ({ cls := "SpoonScales", name := "feed", desc := "(IIIII)I" } : Jvm.MethodName) prog_1_method_22_code (6 : Nat) (Option.some Jvm.ClassFile.FieldType.int)) ∈ lw_all := lw_g (lw_at lw_m2 146 rfl) rfl
theorem q460 : (Jvm.Cond.methodLink "SpoonScales" (182 : Nat) ({ cls := "SpoonScales", name := "four", desc := "(I)V" } : Jvm.MethodName)) ∈ lw_all := lw_g (lw_at lw_m2 147 rfl) rfl
theorem q461 : (Jvm.Cond.privateMethod ({ cls := "SpoonScales", name := "four", desc := "(I)V" } : Jvm.MethodName)) ∈ lw_tbl := lw_at lw_m2 148 rfl
theorem q462 : (Jvm.Cond.instanceMethod ({ cls := "SpoonScales", name := "four", desc := "(I)V" } : Jvm.MethodName)) ∈ lw_all := lw_g (lw_at lw_m2 149 rfl) rfl
theorem q463 : (Jvm.Cond.code ({ cls := "SpoonScales", name := "four", desc := "(I)V" } : Jvm.MethodName) prog_1_method_23_code (3 : Nat) (Option.none : Option Jvm.ClassFile.FieldType)) ∈ lw_all := lw_g (lw_at lw_m2 150 rfl) rfl
theorem q465 : (Jvm.Cond.instanceMethod ({ cls := "SpoonScales", name := "end", desc := "(I)I" } : Jvm.MethodName)) ∈ lw_all := lw_g (lw_at lw_m2 152 rfl) rfl
theorem q466 : (Jvm.Cond.selects "SpoonScales" ({ cls := "SpoonScales", name := "end", desc := "(I)I" } : Jvm.MethodName) ({ cls := "SpoonScales", name := "end", desc := "(I)I" } : Jvm.MethodName)) ∈ lw_all := lw_g (lw_at lw_m2 153 rfl) rfl
theorem q467 : (Jvm.Cond.code ({ cls := "SpoonScales", name := "end", desc := "(I)I" } : Jvm.MethodName) prog_1_method_24_code (2 : Nat) (Option.some Jvm.ClassFile.FieldType.int)) ∈ lw_all := lw_g (lw_at lw_m2 154 rfl) rfl
theorem q469 : (Jvm.Cond.instanceMethod ({ cls := "SpoonScales", name := "text", desc := "()I" } : Jvm.MethodName)) ∈ lw_all := lw_g (lw_at lw_m2 156 rfl) rfl
theorem q470 : (Jvm.Cond.selects "SpoonScales" ({ cls := "SpoonScales", name := "text", desc := "()I" } : Jvm.MethodName) ({ cls := "SpoonScales", name := "text", desc := "()I" } : Jvm.MethodName)) ∈ lw_all := lw_g (lw_at lw_m2 157 rfl) rfl
theorem q471 : (Jvm.Cond.codeWith ({ cls := "SpoonScales", name := "text", desc := "()I" } : Jvm.MethodName) prog_1_method_25_code (3 : Nat) (Option.some Jvm.ClassFile.FieldType.int) [((34 : Nat), (60 : Nat), (63 : Nat), (197 : Nat))]) ∈ lw_all := lw_g (lw_at lw_m2 158 rfl) rfl
theorem q472 : (Jvm.Cond.classLink "SpoonScales" (197 : Nat) "SpoonScales$Wrong") ∈ lw_all := lw_g (lw_at lw_m2 159 rfl) rfl
theorem q473 : (Jvm.Cond.classLink "SpoonScales" (189 : Nat) "SpoonScales$Reader") ∈ lw_all := lw_g (lw_at lw_m2 160 rfl) rfl
theorem q475 : (Jvm.Cond.methodLink "SpoonScales" (191 : Nat) ({ cls := "SpoonScales$Reader", name := "<init>", desc := "([BI)V" } : Jvm.MethodName)) ∈ lw_all := lw_g (lw_at lw_m2 162 rfl) rfl
theorem q510 : (Jvm.Cond.methodLink "SpoonScales" (194 : Nat) ({ cls := "SpoonScales$Reader", name := "read", desc := "()LSpoonScales$Law;" } : Jvm.MethodName)) ∈ lw_all := lw_g (lw_at lw_m2 197 rfl) rfl
theorem q654 : (Jvm.Cond.fieldLinkNest "SpoonScales" (199 : Nat) "SpoonScales$Wrong" "code" "I" "SpoonScales") ∈ lw_tbl := lw_at lw_m3 101 rfl
theorem q656 : (Jvm.Cond.fieldLinkNest "SpoonScales" (202 : Nat) "SpoonScales$Wrong" "place" "I" "SpoonScales") ∈ lw_tbl := lw_at lw_m3 103 rfl
theorem q856 : (Jvm.Cond.instanceMethod ({ cls := "SpoonScales", name := "fault", desc := "(I)I" } : Jvm.MethodName)) ∈ lw_all := lw_g (lw_at lw_m4 63 rfl) rfl
theorem q857 : (Jvm.Cond.selects "SpoonScales" ({ cls := "SpoonScales", name := "fault", desc := "(I)I" } : Jvm.MethodName) ({ cls := "SpoonScales", name := "fault", desc := "(I)I" } : Jvm.MethodName)) ∈ lw_all := lw_g (lw_at lw_m4 64 rfl) rfl
theorem q858 : (Jvm.Cond.code ({ cls := "SpoonScales", name := "fault", desc := "(I)I" } : Jvm.MethodName) prog_1_method_26_code (2 : Nat) (Option.some Jvm.ClassFile.FieldType.int)) ∈ lw_all := lw_g (lw_at lw_m4 65 rfl) rfl
theorem q860 : (Jvm.Cond.instanceMethod ({ cls := "SpoonScales", name := "by", desc := "(I)Z" } : Jvm.MethodName)) ∈ lw_all := lw_g (lw_at lw_m4 67 rfl) rfl
theorem q861 : (Jvm.Cond.selects "SpoonScales" ({ cls := "SpoonScales", name := "by", desc := "(I)Z" } : Jvm.MethodName) ({ cls := "SpoonScales", name := "by", desc := "(I)Z" } : Jvm.MethodName)) ∈ lw_all := lw_g (lw_at lw_m4 68 rfl) rfl
theorem q862 : (Jvm.Cond.code ({ cls := "SpoonScales", name := "by", desc := "(I)Z" } : Jvm.MethodName) prog_1_method_27_code (2 : Nat) (Option.some Jvm.ClassFile.FieldType.boolean)) ∈ lw_all := lw_g (lw_at lw_m4 69 rfl) rfl
theorem q864 : (Jvm.Cond.instanceMethod ({ cls := "SpoonScales", name := "played", desc := "(I)I" } : Jvm.MethodName)) ∈ lw_all := lw_g (lw_at lw_m4 71 rfl) rfl
theorem q865 : (Jvm.Cond.selects "SpoonScales" ({ cls := "SpoonScales", name := "played", desc := "(I)I" } : Jvm.MethodName) ({ cls := "SpoonScales", name := "played", desc := "(I)I" } : Jvm.MethodName)) ∈ lw_all := lw_g (lw_at lw_m4 72 rfl) rfl
theorem q866 : (Jvm.Cond.code ({ cls := "SpoonScales", name := "played", desc := "(I)I" } : Jvm.MethodName) prog_1_method_28_code (4 : Nat) (Option.some Jvm.ClassFile.FieldType.int)) ∈ lw_all := lw_g (lw_at lw_m4 73 rfl) rfl
theorem q867 : (Jvm.Cond.interfaceEntry "SpoonScales" (212 : Nat)) ∈ lw_tbl := lw_at lw_m4 74 rfl
theorem q868 : (Jvm.Cond.methodLink "SpoonScales" (212 : Nat) ({ cls := "SpoonScales$Line", name := "done", desc := "(LSpoonScales;)Z" } : Jvm.MethodName)) ∈ lw_all := lw_g (lw_at lw_m4 75 rfl) rfl
theorem q900 : (Jvm.Cond.instanceMethod ({ cls := "SpoonScales", name := "of", desc := "(II)I" } : Jvm.MethodName)) ∈ lw_all := lw_g (lw_at lw_m4 107 rfl) rfl
theorem q901 : (Jvm.Cond.selects "SpoonScales" ({ cls := "SpoonScales", name := "of", desc := "(II)I" } : Jvm.MethodName) ({ cls := "SpoonScales", name := "of", desc := "(II)I" } : Jvm.MethodName)) ∈ lw_all := lw_g (lw_at lw_m4 108 rfl) rfl
theorem q902 : (Jvm.Cond.code ({ cls := "SpoonScales", name := "of", desc := "(II)I" } : Jvm.MethodName) prog_1_method_29_code (3 : Nat) (Option.some Jvm.ClassFile.FieldType.int)) ∈ lw_all := lw_g (lw_at lw_m4 109 rfl) rfl
theorem q904 : (Jvm.Cond.instanceMethod ({ cls := "SpoonScales", name := "written", desc := "(II)I" } : Jvm.MethodName)) ∈ lw_all := lw_g (lw_at lw_m4 111 rfl) rfl
theorem q905 : (Jvm.Cond.selects "SpoonScales" ({ cls := "SpoonScales", name := "written", desc := "(II)I" } : Jvm.MethodName) ({ cls := "SpoonScales", name := "written", desc := "(II)I" } : Jvm.MethodName)) ∈ lw_all := lw_g (lw_at lw_m4 112 rfl) rfl
theorem q906 : (Jvm.Cond.code ({ cls := "SpoonScales", name := "written", desc := "(II)I" } : Jvm.MethodName) prog_1_method_30_code (3 : Nat) (Option.some Jvm.ClassFile.FieldType.int)) ∈ lw_all := lw_g (lw_at lw_m4 113 rfl) rfl
theorem q908 : (Jvm.Cond.instanceMethod ({ cls := "SpoonScales", name := "dent", desc := "(II)I" } : Jvm.MethodName)) ∈ lw_all := lw_g (lw_at lw_m4 115 rfl) rfl
theorem q909 : (Jvm.Cond.selects "SpoonScales" ({ cls := "SpoonScales", name := "dent", desc := "(II)I" } : Jvm.MethodName) ({ cls := "SpoonScales", name := "dent", desc := "(II)I" } : Jvm.MethodName)) ∈ lw_all := lw_g (lw_at lw_m4 116 rfl) rfl
theorem q910 : (Jvm.Cond.code ({ cls := "SpoonScales", name := "dent", desc := "(II)I" } : Jvm.MethodName) prog_1_method_31_code (3 : Nat) (Option.some Jvm.ClassFile.FieldType.int)) ∈ lw_all := lw_g (lw_at lw_m4 117 rfl) rfl
theorem q912 : (Jvm.Cond.instanceMethod ({ cls := "SpoonScales", name := "called", desc := "(III)I" } : Jvm.MethodName)) ∈ lw_all := lw_g (lw_at lw_m4 119 rfl) rfl
theorem q913 : (Jvm.Cond.selects "SpoonScales" ({ cls := "SpoonScales", name := "called", desc := "(III)I" } : Jvm.MethodName) ({ cls := "SpoonScales", name := "called", desc := "(III)I" } : Jvm.MethodName)) ∈ lw_all := lw_g (lw_at lw_m4 120 rfl) rfl
theorem q914 : (Jvm.Cond.code ({ cls := "SpoonScales", name := "called", desc := "(III)I" } : Jvm.MethodName) prog_1_method_34_code (4 : Nat) (Option.some Jvm.ClassFile.FieldType.int)) ∈ lw_all := lw_g (lw_at lw_m4 121 rfl) rfl
theorem q915 : (Jvm.Cond.methodLink "SpoonScales" (239 : Nat) ({ cls := "SpoonScales", name := "canCall", desc := "(I)Z" } : Jvm.MethodName)) ∈ lw_all := lw_g (lw_at lw_m4 122 rfl) rfl
theorem q916 : (Jvm.Cond.privateMethod ({ cls := "SpoonScales", name := "canCall", desc := "(I)Z" } : Jvm.MethodName)) ∈ lw_tbl := lw_at lw_m4 123 rfl
theorem q917 : (Jvm.Cond.instanceMethod ({ cls := "SpoonScales", name := "canCall", desc := "(I)Z" } : Jvm.MethodName)) ∈ lw_all := lw_g (lw_at lw_m4 124 rfl) rfl
theorem q918 : (Jvm.Cond.code ({ cls := "SpoonScales", name := "canCall", desc := "(I)Z" } : Jvm.MethodName) prog_1_method_33_code (3 : Nat) (Option.some Jvm.ClassFile.FieldType.boolean)) ∈ lw_all := lw_g (lw_at lw_m4 125 rfl) rfl
theorem q919 : (Jvm.Cond.methodLink "SpoonScales" (234 : Nat) ({ cls := "java/lang/Integer", name := "bitCount", desc := "(I)I" } : Jvm.MethodName)) ∈ lw_all := lw_g (lw_at lw_m4 126 rfl) rfl
theorem q925 : (Jvm.Cond.methodLink "SpoonScales" (224 : Nat) ({ cls := "java/lang/System", name := "arraycopy", desc := "(Ljava/lang/Object;ILjava/lang/Object;II)V" } : Jvm.MethodName)) ∈ lw_all := lw_g (lw_at lw_m4 132 rfl) rfl
theorem q926 : (Jvm.Cond.constant "SpoonScales" (242 : Nat) (2147483647 : Int32)) ∈ lw_all := lw_g (lw_at lw_m4 133 rfl) rfl
theorem q927 : (Jvm.Cond.methodLink "SpoonScales" (230 : Nat) ({ cls := "SpoonScales", name := "calls", desc := "(III)V" } : Jvm.MethodName)) ∈ lw_all := lw_g (lw_at lw_m4 134 rfl) rfl
theorem q928 : (Jvm.Cond.privateMethod ({ cls := "SpoonScales", name := "calls", desc := "(III)V" } : Jvm.MethodName)) ∈ lw_tbl := lw_at lw_m4 135 rfl
theorem q929 : (Jvm.Cond.instanceMethod ({ cls := "SpoonScales", name := "calls", desc := "(III)V" } : Jvm.MethodName)) ∈ lw_all := lw_g (lw_at lw_m4 136 rfl) rfl
theorem q930 : (Jvm.Cond.code ({ cls := "SpoonScales", name := "calls", desc := "(III)V" } : Jvm.MethodName) prog_1_method_32_code (5 : Nat) (Option.none : Option Jvm.ClassFile.FieldType)) ∈ lw_all := lw_g (lw_at lw_m4 137 rfl) rfl
theorem q931 : (Jvm.Cond.methodLink "SpoonScales" (218 : Nat) ({ cls := "java/lang/Math", name := "abs", desc := "(I)I" } : Jvm.MethodName)) ∈ lw_all := lw_g (lw_at lw_m4 138 rfl) rfl
theorem q935 : (Jvm.Cond.instanceMethod ({ cls := "SpoonScales", name := "acquitted", desc := "(II)I" } : Jvm.MethodName)) ∈ lw_all := lw_g (lw_at lw_m4 142 rfl) rfl
theorem q936 : (Jvm.Cond.selects "SpoonScales" ({ cls := "SpoonScales", name := "acquitted", desc := "(II)I" } : Jvm.MethodName) ({ cls := "SpoonScales", name := "acquitted", desc := "(II)I" } : Jvm.MethodName)) ∈ lw_all := lw_g (lw_at lw_m4 143 rfl) rfl
theorem q937 : (Jvm.Cond.code ({ cls := "SpoonScales", name := "acquitted", desc := "(II)I" } : Jvm.MethodName) prog_1_method_36_code (4 : Nat) (Option.some Jvm.ClassFile.FieldType.int)) ∈ lw_all := lw_g (lw_at lw_m4 144 rfl) rfl
theorem q938 : (Jvm.Cond.methodLink "SpoonScales" (246 : Nat) ({ cls := "SpoonScales", name := "acquits", desc := "(IIII)V" } : Jvm.MethodName)) ∈ lw_all := lw_g (lw_at lw_m4 145 rfl) rfl
theorem q939 : (Jvm.Cond.privateMethod ({ cls := "SpoonScales", name := "acquits", desc := "(IIII)V" } : Jvm.MethodName)) ∈ lw_tbl := lw_at lw_m4 146 rfl
theorem q940 : (Jvm.Cond.instanceMethod ({ cls := "SpoonScales", name := "acquits", desc := "(IIII)V" } : Jvm.MethodName)) ∈ lw_all := lw_g (lw_at lw_m4 147 rfl) rfl
theorem q941 : (Jvm.Cond.code ({ cls := "SpoonScales", name := "acquits", desc := "(IIII)V" } : Jvm.MethodName) prog_1_method_35_code (8 : Nat) (Option.none : Option Jvm.ClassFile.FieldType)) ∈ lw_all := lw_g (lw_at lw_m4 148 rfl) rfl
theorem q943 : (Jvm.Cond.instanceMethod ({ cls := "SpoonScales", name := "sets", desc := "(IIII)I" } : Jvm.MethodName)) ∈ lw_all := lw_g (lw_at lw_m4 150 rfl) rfl
theorem q944 : (Jvm.Cond.selects "SpoonScales" ({ cls := "SpoonScales", name := "sets", desc := "(IIII)I" } : Jvm.MethodName) ({ cls := "SpoonScales", name := "sets", desc := "(IIII)I" } : Jvm.MethodName)) ∈ lw_all := lw_g (lw_at lw_m4 151 rfl) rfl
theorem q945 : (Jvm.Cond.code ({ cls := "SpoonScales", name := "sets", desc := "(IIII)I" } : Jvm.MethodName) prog_1_method_38_code (7 : Nat) (Option.some Jvm.ClassFile.FieldType.int)) ∈ lw_all := lw_g (lw_at lw_m4 152 rfl) rfl
theorem q946 : (Jvm.Cond.methodLink "SpoonScales" (250 : Nat) ({ cls := "SpoonScales", name := "leaves", desc := "(IIII)Z" } : Jvm.MethodName)) ∈ lw_all := lw_g (lw_at lw_m4 153 rfl) rfl
theorem q947 : (Jvm.Cond.privateMethod ({ cls := "SpoonScales", name := "leaves", desc := "(IIII)Z" } : Jvm.MethodName)) ∈ lw_tbl := lw_at lw_m4 154 rfl
theorem q948 : (Jvm.Cond.instanceMethod ({ cls := "SpoonScales", name := "leaves", desc := "(IIII)Z" } : Jvm.MethodName)) ∈ lw_all := lw_g (lw_at lw_m4 155 rfl) rfl
theorem q949 : (Jvm.Cond.code ({ cls := "SpoonScales", name := "leaves", desc := "(IIII)Z" } : Jvm.MethodName) prog_1_method_37_code (7 : Nat) (Option.some Jvm.ClassFile.FieldType.boolean)) ∈ lw_all := lw_g (lw_at lw_m4 156 rfl) rfl
theorem q951 : (Jvm.Cond.instanceMethod ({ cls := "SpoonScales", name := "tested", desc := "(II)I" } : Jvm.MethodName)) ∈ lw_all := lw_g (lw_at lw_m4 158 rfl) rfl
theorem q952 : (Jvm.Cond.selects "SpoonScales" ({ cls := "SpoonScales", name := "tested", desc := "(II)I" } : Jvm.MethodName) ({ cls := "SpoonScales", name := "tested", desc := "(II)I" } : Jvm.MethodName)) ∈ lw_all := lw_g (lw_at lw_m4 159 rfl) rfl
theorem q953 : (Jvm.Cond.code ({ cls := "SpoonScales", name := "tested", desc := "(II)I" } : Jvm.MethodName) prog_1_method_39_code (3 : Nat) (Option.some Jvm.ClassFile.FieldType.int)) ∈ lw_all := lw_g (lw_at lw_m4 160 rfl) rfl
theorem q955 : (Jvm.Cond.instanceMethod ({ cls := "SpoonScales", name := "fits", desc := "()I" } : Jvm.MethodName)) ∈ lw_all := lw_g (lw_at lw_m4 162 rfl) rfl
theorem q956 : (Jvm.Cond.selects "SpoonScales" ({ cls := "SpoonScales", name := "fits", desc := "()I" } : Jvm.MethodName) ({ cls := "SpoonScales", name := "fits", desc := "()I" } : Jvm.MethodName)) ∈ lw_all := lw_g (lw_at lw_m4 163 rfl) rfl
theorem q957 : (Jvm.Cond.code ({ cls := "SpoonScales", name := "fits", desc := "()I" } : Jvm.MethodName) prog_1_method_42_code (3 : Nat) (Option.some Jvm.ClassFile.FieldType.int)) ∈ lw_all := lw_g (lw_at lw_m4 164 rfl) rfl
theorem q958 : (Jvm.Cond.methodLink "SpoonScales" (266 : Nat) ({ cls := "SpoonScales", name := "isFit", desc := "(I)Z" } : Jvm.MethodName)) ∈ lw_all := lw_g (lw_at lw_m4 165 rfl) rfl
theorem q959 : (Jvm.Cond.privateMethod ({ cls := "SpoonScales", name := "isFit", desc := "(I)Z" } : Jvm.MethodName)) ∈ lw_tbl := lw_at lw_m4 166 rfl
theorem q960 : (Jvm.Cond.instanceMethod ({ cls := "SpoonScales", name := "isFit", desc := "(I)Z" } : Jvm.MethodName)) ∈ lw_all := lw_g (lw_at lw_m4 167 rfl) rfl
theorem q961 : (Jvm.Cond.code ({ cls := "SpoonScales", name := "isFit", desc := "(I)Z" } : Jvm.MethodName) prog_1_method_41_code (3 : Nat) (Option.some Jvm.ClassFile.FieldType.boolean)) ∈ lw_all := lw_g (lw_at lw_m4 168 rfl) rfl
theorem q962 : (Jvm.Cond.methodLink "SpoonScales" (263 : Nat) ({ cls := "SpoonScales", name := "hangs", desc := "(II)I" } : Jvm.MethodName)) ∈ lw_all := lw_g (lw_at lw_m4 169 rfl) rfl
theorem q963 : (Jvm.Cond.static ({ cls := "SpoonScales", name := "hangs", desc := "(II)I" } : Jvm.MethodName)) ∈ lw_all := lw_g (lw_at lw_m4 170 rfl) rfl
theorem q964 : (Jvm.Cond.code ({ cls := "SpoonScales", name := "hangs", desc := "(II)I" } : Jvm.MethodName) prog_1_method_40_code (2 : Nat) (Option.some Jvm.ClassFile.FieldType.int)) ∈ lw_all := lw_g (lw_at lw_m4 171 rfl) rfl
theorem q965 : (Jvm.Cond.methodLink "SpoonScales" (260 : Nat) ({ cls := "java/lang/Integer", name := "compare", desc := "(II)I" } : Jvm.MethodName)) ∈ lw_all := lw_g (lw_at lw_m4 172 rfl) rfl
theorem q969 : (Jvm.Cond.instanceMethod ({ cls := "SpoonScales", name := "next", desc := "()I" } : Jvm.MethodName)) ∈ lw_all := lw_g (lw_at lw_m4 176 rfl) rfl
theorem q970 : (Jvm.Cond.selects "SpoonScales" ({ cls := "SpoonScales", name := "next", desc := "()I" } : Jvm.MethodName) ({ cls := "SpoonScales", name := "next", desc := "()I" } : Jvm.MethodName)) ∈ lw_all := lw_g (lw_at lw_m4 177 rfl) rfl
theorem q971 : (Jvm.Cond.code ({ cls := "SpoonScales", name := "next", desc := "()I" } : Jvm.MethodName) prog_1_method_43_code (7 : Nat) (Option.some Jvm.ClassFile.FieldType.int)) ∈ lw_all := lw_g (lw_at lw_m4 178 rfl) rfl
theorem q972 : (Jvm.Cond.methodLink "SpoonScales" (269 : Nat) ({ cls := "SpoonScales", name := "fits", desc := "()I" } : Jvm.MethodName)) ∈ lw_all := lw_g (lw_at lw_m4 179 rfl) rfl
theorem q974 : (Jvm.Cond.instanceMethod ({ cls := "SpoonScales", name := "hired", desc := "(I)I" } : Jvm.MethodName)) ∈ lw_all := lw_g (lw_at lw_m4 181 rfl) rfl
theorem q975 : (Jvm.Cond.selects "SpoonScales" ({ cls := "SpoonScales", name := "hired", desc := "(I)I" } : Jvm.MethodName) ({ cls := "SpoonScales", name := "hired", desc := "(I)I" } : Jvm.MethodName)) ∈ lw_all := lw_g (lw_at lw_m4 182 rfl) rfl
theorem q976 : (Jvm.Cond.code ({ cls := "SpoonScales", name := "hired", desc := "(I)I" } : Jvm.MethodName) prog_1_method_44_code (8 : Nat) (Option.some Jvm.ClassFile.FieldType.int)) ∈ lw_all := lw_g (lw_at lw_m4 183 rfl) rfl
theorem q978 : (Jvm.Cond.instanceMethod ({ cls := "SpoonScales", name := "contrary", desc := "()I" } : Jvm.MethodName)) ∈ lw_all := lw_g (lw_at lw_m4 185 rfl) rfl
theorem q979 : (Jvm.Cond.selects "SpoonScales" ({ cls := "SpoonScales", name := "contrary", desc := "()I" } : Jvm.MethodName) ({ cls := "SpoonScales", name := "contrary", desc := "()I" } : Jvm.MethodName)) ∈ lw_all := lw_g (lw_at lw_m4 186 rfl) rfl
theorem q980 : (Jvm.Cond.code ({ cls := "SpoonScales", name := "contrary", desc := "()I" } : Jvm.MethodName) prog_1_method_45_code (5 : Nat) (Option.some Jvm.ClassFile.FieldType.int)) ∈ lw_all := lw_g (lw_at lw_m4 187 rfl) rfl
theorem q982 : (Jvm.Cond.instanceMethod ({ cls := "SpoonScales", name := "odds", desc := "(IIZ)J" } : Jvm.MethodName)) ∈ lw_all := lw_g (lw_at lw_m4 189 rfl) rfl
theorem q983 : (Jvm.Cond.selects "SpoonScales" ({ cls := "SpoonScales", name := "odds", desc := "(IIZ)J" } : Jvm.MethodName) ({ cls := "SpoonScales", name := "odds", desc := "(IIZ)J" } : Jvm.MethodName)) ∈ lw_all := lw_g (lw_at lw_m4 190 rfl) rfl
theorem q984 : (Jvm.Cond.code ({ cls := "SpoonScales", name := "odds", desc := "(IIZ)J" } : Jvm.MethodName) prog_1_method_48_code (8 : Nat) (Option.some Jvm.ClassFile.FieldType.long)) ∈ lw_all := lw_g (lw_at lw_m4 191 rfl) rfl
theorem q985 : (Jvm.Cond.constantLong "SpoonScales" (280 : Nat) (-1 : Int64)) ∈ lw_all := lw_g (lw_at lw_m4 192 rfl) rfl
theorem q986 : (Jvm.Cond.methodLink "SpoonScales" (282 : Nat) ({ cls := "java/util/Arrays", name := "copyOf", desc := "([II)[I" } : Jvm.MethodName)) ∈ lw_all := lw_g (lw_at lw_m4 193 rfl) rfl
theorem q998 : (Jvm.Cond.methodLink "SpoonScales" (276 : Nat) ({ cls := "SpoonScales", name := "ways", desc := "([III)J" } : Jvm.MethodName)) ∈ lw_all := lw_g (lw_at lw_m4 205 rfl) rfl
theorem q999 : (Jvm.Cond.static ({ cls := "SpoonScales", name := "ways", desc := "([III)J" } : Jvm.MethodName)) ∈ lw_all := lw_g (lw_at lw_m4 206 rfl) rfl
theorem q1000 : (Jvm.Cond.code ({ cls := "SpoonScales", name := "ways", desc := "([III)J" } : Jvm.MethodName) prog_1_method_47_code (7 : Nat) (Option.some Jvm.ClassFile.FieldType.long)) ∈ lw_all := lw_g (lw_at lw_m4 207 rfl) rfl
theorem q1001 : (Jvm.Cond.methodLink "SpoonScales" (273 : Nat) ({ cls := "SpoonScales", name := "common", desc := "(JJ)J" } : Jvm.MethodName)) ∈ lw_all := lw_g (lw_at lw_m4 208 rfl) rfl
theorem q1002 : (Jvm.Cond.static ({ cls := "SpoonScales", name := "common", desc := "(JJ)J" } : Jvm.MethodName)) ∈ lw_all := lw_g (lw_at lw_m4 209 rfl) rfl
theorem q1003 : (Jvm.Cond.code ({ cls := "SpoonScales", name := "common", desc := "(JJ)J" } : Jvm.MethodName) prog_1_method_46_code (4 : Nat) (Option.some Jvm.ClassFile.FieldType.long)) ∈ lw_all := lw_g (lw_at lw_m4 210 rfl) rfl
theorem q1005 : (Jvm.Cond.instanceMethod ({ cls := "SpoonScales", name := "tell", desc := "(II)I" } : Jvm.MethodName)) ∈ lw_all := lw_g (lw_at lw_m4 212 rfl) rfl
theorem q1006 : (Jvm.Cond.selects "SpoonScales" ({ cls := "SpoonScales", name := "tell", desc := "(II)I" } : Jvm.MethodName) ({ cls := "SpoonScales", name := "tell", desc := "(II)I" } : Jvm.MethodName)) ∈ lw_all := lw_g (lw_at lw_m4 213 rfl) rfl
theorem q1007 : (Jvm.Cond.code ({ cls := "SpoonScales", name := "tell", desc := "(II)I" } : Jvm.MethodName) prog_1_method_49_code (3 : Nat) (Option.some Jvm.ClassFile.FieldType.int)) ∈ lw_all := lw_g (lw_at lw_m4 214 rfl) rfl
theorem q1009 : (Jvm.Cond.instanceMethod ({ cls := "SpoonScales", name := "liars", desc := "()I" } : Jvm.MethodName)) ∈ lw_all := lw_g (lw_at lw_m4 216 rfl) rfl
theorem q1010 : (Jvm.Cond.selects "SpoonScales" ({ cls := "SpoonScales", name := "liars", desc := "()I" } : Jvm.MethodName) ({ cls := "SpoonScales", name := "liars", desc := "()I" } : Jvm.MethodName)) ∈ lw_all := lw_g (lw_at lw_m4 217 rfl) rfl
theorem q1011 : (Jvm.Cond.code ({ cls := "SpoonScales", name := "liars", desc := "()I" } : Jvm.MethodName) prog_1_method_51_code (3 : Nat) (Option.some Jvm.ClassFile.FieldType.int)) ∈ lw_all := lw_g (lw_at lw_m4 218 rfl) rfl
theorem q1012 : (Jvm.Cond.methodLink "SpoonScales" (294 : Nat) ({ cls := "SpoonScales", name := "unlike", desc := "(I)I" } : Jvm.MethodName)) ∈ lw_all := lw_g (lw_at lw_m4 219 rfl) rfl
theorem q1013 : (Jvm.Cond.privateMethod ({ cls := "SpoonScales", name := "unlike", desc := "(I)I" } : Jvm.MethodName)) ∈ lw_tbl := lw_at lw_m4 220 rfl
theorem q1014 : (Jvm.Cond.instanceMethod ({ cls := "SpoonScales", name := "unlike", desc := "(I)I" } : Jvm.MethodName)) ∈ lw_all := lw_g (lw_at lw_m4 221 rfl) rfl
theorem q1015 : (Jvm.Cond.code ({ cls := "SpoonScales", name := "unlike", desc := "(I)I" } : Jvm.MethodName) prog_1_method_50_code (4 : Nat) (Option.some Jvm.ClassFile.FieldType.int)) ∈ lw_all := lw_g (lw_at lw_m4 222 rfl) rfl
theorem q1017 : (Jvm.Cond.instanceMethod ({ cls := "SpoonScales", name := "inWhoseName", desc := "(I)I" } : Jvm.MethodName)) ∈ lw_all := lw_g (lw_at lw_m4 224 rfl) rfl
theorem q1018 : (Jvm.Cond.selects "SpoonScales" ({ cls := "SpoonScales", name := "inWhoseName", desc := "(I)I" } : Jvm.MethodName) ({ cls := "SpoonScales", name := "inWhoseName", desc := "(I)I" } : Jvm.MethodName)) ∈ lw_all := lw_g (lw_at lw_m4 225 rfl) rfl
theorem q1019 : (Jvm.Cond.code ({ cls := "SpoonScales", name := "inWhoseName", desc := "(I)I" } : Jvm.MethodName) prog_1_method_52_code (3 : Nat) (Option.some Jvm.ClassFile.FieldType.int)) ∈ lw_all := lw_g (lw_at lw_m4 226 rfl) rfl
theorem q1021 : (Jvm.Cond.instanceMethod ({ cls := "SpoonScales", name := "image", desc := "()I" } : Jvm.MethodName)) ∈ lw_all := lw_g (lw_at lw_m4 228 rfl) rfl
theorem q1022 : (Jvm.Cond.selects "SpoonScales" ({ cls := "SpoonScales", name := "image", desc := "()I" } : Jvm.MethodName) ({ cls := "SpoonScales", name := "image", desc := "()I" } : Jvm.MethodName)) ∈ lw_all := lw_g (lw_at lw_m4 229 rfl) rfl
theorem q1023 : (Jvm.Cond.code ({ cls := "SpoonScales", name := "image", desc := "()I" } : Jvm.MethodName) prog_1_method_53_code (1 : Nat) (Option.some Jvm.ClassFile.FieldType.int)) ∈ lw_all := lw_g (lw_at lw_m4 230 rfl) rfl
theorem q1024 : (Jvm.Cond.methodLink "SpoonScales" (297 : Nat) ({ cls := "SpoonScales$Court", name := "lay", desc := "(LSpoonScales$Court;)V" } : Jvm.MethodName)) ∈ lw_all := lw_g (lw_at lw_m4 231 rfl) rfl
theorem q1032 : (Jvm.Cond.instanceMethod ({ cls := "SpoonScales", name := "back", desc := "()I" } : Jvm.MethodName)) ∈ lw_all := lw_g (lw_at lw_m4 239 rfl) rfl
theorem q1033 : (Jvm.Cond.selects "SpoonScales" ({ cls := "SpoonScales", name := "back", desc := "()I" } : Jvm.MethodName) ({ cls := "SpoonScales", name := "back", desc := "()I" } : Jvm.MethodName)) ∈ lw_all := lw_g (lw_at lw_m5 0 rfl) rfl
theorem q1034 : (Jvm.Cond.code ({ cls := "SpoonScales", name := "back", desc := "()I" } : Jvm.MethodName) prog_1_method_54_code (1 : Nat) (Option.some Jvm.ClassFile.FieldType.int)) ∈ lw_all := lw_g (lw_at lw_m5 1 rfl) rfl
theorem q1036 : (Jvm.Cond.instanceMethod ({ cls := "SpoonScales", name := "about", desc := "(I)I" } : Jvm.MethodName)) ∈ lw_all := lw_g (lw_at lw_m5 3 rfl) rfl
theorem q1037 : (Jvm.Cond.selects "SpoonScales" ({ cls := "SpoonScales", name := "about", desc := "(I)I" } : Jvm.MethodName) ({ cls := "SpoonScales", name := "about", desc := "(I)I" } : Jvm.MethodName)) ∈ lw_all := lw_g (lw_at lw_m5 4 rfl) rfl
theorem q1038 : (Jvm.Cond.code ({ cls := "SpoonScales", name := "about", desc := "(I)I" } : Jvm.MethodName) prog_1_method_55_code (2 : Nat) (Option.some Jvm.ClassFile.FieldType.int)) ∈ lw_all := lw_g (lw_at lw_m5 5 rfl) rfl
theorem in_X0 : ∀ w ∈ wsX00, w ∈ lw_all := lw_in wsX00 [243, 245, 247, 249, 251, 253, 255, 257, 259, 261, 263, 265, 267, 269] (by decide +kernel) (by decide +kernel)
