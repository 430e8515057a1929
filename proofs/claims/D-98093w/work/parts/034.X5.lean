/-! SpoonScalesModel -/
set_option maxRecDepth 100000
def RX5 : String := "SpoonScalesModel"
def TX5 : u_T := fun k => match k with
  | 0 => ("SpoonScalesModel", "a", "[I", true)
  | 1 => ("SpoonScalesModel", "image", "[I", true)
  | 2 => ("SpoonScalesModel", "tape", "[B", true)
  | 3 => ("SpoonScalesModel", "taped", "I", false)
  | 4 => ("SpoonScalesModel", "fault", "I", false)
  | 5 => ("SpoonScalesModel", "faultAt", "I", false)
  | 6 => ("SpoonScalesModel", "clauses", "[I", true)
  | 7 => ("SpoonScalesModel", "clauseWord", "[I", true)
  | 8 => ("SpoonScalesModel", "clauseAt", "[I", true)
  | 9 => ("SpoonScalesModel", "clauseOne", "[I", true)
  | 10 => ("SpoonScalesModel", "clauseTwo", "[I", true)
  | 11 => ("SpoonScalesModel", "order", "[I", true)
  | 12 => ("SpoonScalesModel", "value", "[I", true)
  | 13 => ("SpoonScalesModel", "length", "I", false)
  | 14 => ("SpoonScalesModel", "at", "I", false)
  | 15 => ("SpoonScalesModel", "token", "I", false)
  | 16 => ("SpoonScalesModel", "sort", "I", false)
  | 17 => ("SpoonScalesModel", "told", "I", false)
  | 18 => ("SpoonScalesModel", "wrong", "I", false)
  | 19 => ("SpoonScalesModel", "wrongAt", "I", false)
  | 20 => ("SpoonScalesModel", "open", "I", false)
  | 21 => ("SpoonScalesModel", "frames", "I", false)
  | 22 => ("SpoonScalesModel", "frame", "[I", true)
  | 23 => ("SpoonScalesModel", "compare", "[I", true)
  | 24 => ("SpoonScalesModel", "waits", "I", false)
  | 25 => ("SpoonScalesModel", "wait", "[I", true)
  | 26 => ("SpoonScalesModel", "waitFrame", "[I", true)
  | 27 => ("SpoonScalesModel", "state", "I", false)
  | 28 => ("SpoonScalesModel", "newClauses", "I", false)
  | 29 => ("SpoonScalesModel", "newKind", "I", false)
  | 30 => ("SpoonScalesModel", "newWord", "[I", true)
  | 31 => ("SpoonScalesModel", "newAt", "[I", true)
  | 32 => ("SpoonScalesModel", "newOne", "[I", true)
  | 33 => ("SpoonScalesModel", "newTwo", "[I", true)
  | 34 => ("SpoonScalesModel", "newOrders", "I", false)
  | 35 => ("SpoonScalesModel", "newOrder", "[I", true)
  | 36 => ("SpoonScalesModel", "newValue", "[I", true)
  | 37 => ("SpoonScalesModel", "name", "[I", true)
  | 38 => ("SpoonScalesModel", "pile", "[J", true)
  | 39 => ("SpoonScalesModel", "pots", "[I", true)
  | 40 => ("SpoonScalesModel", "ate", "[I", true)
  | 41 => ("SpoonScalesModel", "eatenSpoons", "I", false)
  | 42 => ("SpoonScalesModel", "callable", "[I", true)
  | 43 => ("SpoonScalesModel", "called", "[I", true)
  | 44 => ("SpoonScalesModel", "best", "[I", true)
  | 45 => ("SpoonScalesModel", "row", "[I", true)
  | 46 => ("SpoonScalesModel", "bestRow", "[I", true)
  | _ => ("SpoonScalesModel", "leastHoney", "I", false)
def tyX5 : Nat → FieldType := fun k => match k with
  | 0 => .array .int
  | 1 => .array .int
  | 2 => .array .byte
  | 3 => .int
  | 4 => .int
  | 5 => .int
  | 6 => .array .int
  | 7 => .array .int
  | 8 => .array .int
  | 9 => .array .int
  | 10 => .array .int
  | 11 => .array .int
  | 12 => .array .int
  | 13 => .int
  | 14 => .int
  | 15 => .int
  | 16 => .int
  | 17 => .int
  | 18 => .int
  | 19 => .int
  | 20 => .int
  | 21 => .int
  | 22 => .array .int
  | 23 => .array .int
  | 24 => .int
  | 25 => .array .int
  | 26 => .array .int
  | 27 => .int
  | 28 => .int
  | 29 => .int
  | 30 => .array .int
  | 31 => .array .int
  | 32 => .array .int
  | 33 => .array .int
  | 34 => .int
  | 35 => .array .int
  | 36 => .array .int
  | 37 => .array .int
  | 38 => .array .long
  | 39 => .array .int
  | 40 => .array .int
  | 41 => .int
  | 42 => .array .int
  | 43 => .array .int
  | 44 => .array .int
  | 45 => .array .int
  | 46 => .array .int
  | _ => .int
abbrev wsX50 : List Cond := u_ws RX5 TX5 48
set_option maxRecDepth 100000 in
theorem nmX5 : ∀ a, a < 48 → ∀ b, b < 48 → a ≠ b → (TX5 a).2.1 ≠ (TX5 b).2.1 := by decide +kernel
set_option maxRecDepth 100000 in
theorem tyX5_ok : ∀ k, k < 48 → parseFieldDescriptor (TX5 k).2.2.1 = some (tyX5 k) := by decide +kernel
abbrev cX5_init : ByteArray := prog_23_method_1_code
def yX5_init : MethodName := ⟨RX5, "<init>", "()V"⟩
def dkwX5_init_12 : List UInt8 := [96, 5, 79, 132, 1, 1, 167, 255, 237, 42, 4, 182, 0, 106, 177]
abbrev dktX5_init_12 : List UInt8 := dkwX5_init_12 ++ []
def dkwX5_init_11 : List UInt8 := [42, 180, 0, 7, 17, 1, 208, 6, 79, 3, 60, 27, 16, 9, 162, 0, 19, 42, 180, 0, 7, 16, 114, 27]
abbrev dktX5_init_11 : List UInt8 := dkwX5_init_11 ++ dktX5_init_12
def dkwX5_init_10 : List UInt8 := [181, 0, 97, 42, 7, 188, 10, 181, 0, 100, 42, 7, 188, 10, 181, 0, 103, 42, 180, 0, 7, 5, 2, 79]
abbrev dktX5_init_10 : List UInt8 := dkwX5_init_10 ++ dktX5_init_11
def dkwX5_init_9 : List UInt8 := [181, 0, 88, 42, 16, 6, 188, 10, 181, 0, 91, 42, 16, 6, 188, 10, 181, 0, 94, 42, 16, 6, 188, 10]
abbrev dktX5_init_9 : List UInt8 := dkwX5_init_9 ++ dktX5_init_10
def dkwX5_init_8 : List UInt8 := [181, 0, 78, 42, 17, 0, 200, 188, 11, 181, 0, 81, 42, 7, 188, 10, 181, 0, 85, 42, 16, 9, 188, 10]
abbrev dktX5_init_8 : List UInt8 := dkwX5_init_8 ++ dktX5_init_9
def dkwX5_init_7 : List UInt8 := [17, 1, 144, 188, 10, 181, 0, 72, 42, 17, 1, 144, 188, 10, 181, 0, 75, 42, 16, 12, 188, 10]
abbrev dktX5_init_7 : List UInt8 := dkwX5_init_7 ++ dktX5_init_8
def dkwX5_init_6 : List UInt8 := [188, 10, 181, 0, 63, 42, 16, 24, 188, 10, 181, 0, 66, 42, 16, 24, 188, 10, 181, 0, 69, 42]
abbrev dktX5_init_6 : List UInt8 := dkwX5_init_6 ++ dktX5_init_7
def dkwX5_init_5 : List UInt8 := [188, 10, 181, 0, 54, 42, 16, 80, 188, 10, 181, 0, 57, 42, 16, 24, 188, 10, 181, 0, 60, 42, 16, 24]
abbrev dktX5_init_5 : List UInt8 := dkwX5_init_5 ++ dktX5_init_6
def dkwX5_init_4 : List UInt8 := [188, 10, 181, 0, 45, 42, 16, 40, 188, 10, 181, 0, 48, 42, 16, 41, 188, 10, 181, 0, 51, 42, 16, 80]
abbrev dktX5_init_4 : List UInt8 := dkwX5_init_4 ++ dktX5_init_5
def dkwX5_init_3 : List UInt8 := [181, 0, 36, 42, 16, 96, 188, 10, 181, 0, 39, 42, 17, 6, 64, 188, 10, 181, 0, 42, 42, 17, 6, 64]
abbrev dktX5_init_3 : List UInt8 := dkwX5_init_3 ++ dktX5_init_4
def dkwX5_init_2 : List UInt8 := [181, 0, 27, 42, 16, 96, 188, 10, 181, 0, 30, 42, 16, 96, 188, 10, 181, 0, 33, 42, 16, 96, 188, 10]
abbrev dktX5_init_2 : List UInt8 := dkwX5_init_2 ++ dktX5_init_3
def dkwX5_init_1 : List UInt8 := [17, 1, 44, 188, 8, 181, 0, 16, 42, 2, 181, 0, 20, 42, 2, 181, 0, 24, 42, 7, 188, 10]
abbrev dktX5_init_1 : List UInt8 := dkwX5_init_1 ++ dktX5_init_2
def dkwX5_init_0 : List UInt8 := [42, 183, 0, 1, 42, 17, 43, 112, 188, 10, 181, 0, 7, 42, 17, 43, 112, 188, 10, 181, 0, 13, 42]
abbrev dktX5_init_0 : List UInt8 := dkwX5_init_0 ++ dktX5_init_1
theorem dksX5_init_0 : cX5_init.data.toList.drop 0 = dktX5_init_0 := by decide +kernel
theorem dksX5_init_1 : cX5_init.data.toList.drop 23 = dktX5_init_1 := dk_seg dksX5_init_0 23 rfl rfl
theorem dksX5_init_2 : cX5_init.data.toList.drop 45 = dktX5_init_2 := dk_seg dksX5_init_1 22 rfl rfl
theorem dksX5_init_3 : cX5_init.data.toList.drop 69 = dktX5_init_3 := dk_seg dksX5_init_2 24 rfl rfl
theorem dksX5_init_4 : cX5_init.data.toList.drop 93 = dktX5_init_4 := dk_seg dksX5_init_3 24 rfl rfl
theorem dksX5_init_5 : cX5_init.data.toList.drop 117 = dktX5_init_5 := dk_seg dksX5_init_4 24 rfl rfl
theorem dksX5_init_6 : cX5_init.data.toList.drop 141 = dktX5_init_6 := dk_seg dksX5_init_5 24 rfl rfl
theorem dksX5_init_7 : cX5_init.data.toList.drop 163 = dktX5_init_7 := dk_seg dksX5_init_6 22 rfl rfl
theorem dksX5_init_8 : cX5_init.data.toList.drop 185 = dktX5_init_8 := dk_seg dksX5_init_7 22 rfl rfl
theorem dksX5_init_9 : cX5_init.data.toList.drop 209 = dktX5_init_9 := dk_seg dksX5_init_8 24 rfl rfl
theorem dksX5_init_10 : cX5_init.data.toList.drop 233 = dktX5_init_10 := dk_seg dksX5_init_9 24 rfl rfl
theorem dksX5_init_11 : cX5_init.data.toList.drop 257 = dktX5_init_11 := dk_seg dksX5_init_10 24 rfl rfl
theorem dksX5_init_12 : cX5_init.data.toList.drop 281 = dktX5_init_12 := dk_seg dksX5_init_11 24 rfl rfl
theorem dX5_init_0 : decode cX5_init 0 = .ok (.aload_n 0, 1) := dk_42 (dk_at dksX5_init_0 0 rfl rfl)
theorem dX5_init_1 : decode cX5_init 1 = .ok (.invokespecial 1, 3) := dk_183 0 1 (dk_at dksX5_init_0 1 rfl rfl)
theorem dX5_init_4 : decode cX5_init 4 = .ok (.aload_n 0, 1) := dk_42 (dk_at dksX5_init_0 4 rfl rfl)
theorem dX5_init_5 : decode cX5_init 5 = .ok (.sipush 11120, 3) := dk_17 43 112 (dk_at dksX5_init_0 5 rfl rfl)
theorem dX5_init_8 : decode cX5_init 8 = .ok (.newarray .int, 2) := dk_188_10 (dk_at dksX5_init_0 8 rfl rfl)
theorem dX5_init_10 : decode cX5_init 10 = .ok (.putfield 7, 3) := dk_181 0 7 (dk_at dksX5_init_0 10 rfl rfl)
theorem dX5_init_13 : decode cX5_init 13 = .ok (.aload_n 0, 1) := dk_42 (dk_at dksX5_init_0 13 rfl rfl)
theorem dX5_init_14 : decode cX5_init 14 = .ok (.sipush 11120, 3) := dk_17 43 112 (dk_at dksX5_init_0 14 rfl rfl)
theorem dX5_init_17 : decode cX5_init 17 = .ok (.newarray .int, 2) := dk_188_10 (dk_at dksX5_init_0 17 rfl rfl)
theorem dX5_init_19 : decode cX5_init 19 = .ok (.putfield 13, 3) := dk_181 0 13 (dk_at dksX5_init_0 19 rfl rfl)
theorem dX5_init_22 : decode cX5_init 22 = .ok (.aload_n 0, 1) := dk_42 (dk_at dksX5_init_0 22 rfl rfl)
theorem dX5_init_23 : decode cX5_init 23 = .ok (.sipush 300, 3) := dk_17 1 44 (dk_at dksX5_init_1 0 rfl rfl)
theorem dX5_init_26 : decode cX5_init 26 = .ok (.newarray .byte, 2) := dk_188_8 (dk_at dksX5_init_1 3 rfl rfl)
theorem dX5_init_28 : decode cX5_init 28 = .ok (.putfield 16, 3) := dk_181 0 16 (dk_at dksX5_init_1 5 rfl rfl)
theorem dX5_init_31 : decode cX5_init 31 = .ok (.aload_n 0, 1) := dk_42 (dk_at dksX5_init_1 8 rfl rfl)
theorem dX5_init_32 : decode cX5_init 32 = .ok (.iconst (-1), 1) := dk_2 (dk_at dksX5_init_1 9 rfl rfl)
theorem dX5_init_33 : decode cX5_init 33 = .ok (.putfield 20, 3) := dk_181 0 20 (dk_at dksX5_init_1 10 rfl rfl)
theorem dX5_init_36 : decode cX5_init 36 = .ok (.aload_n 0, 1) := dk_42 (dk_at dksX5_init_1 13 rfl rfl)
theorem dX5_init_37 : decode cX5_init 37 = .ok (.iconst (-1), 1) := dk_2 (dk_at dksX5_init_1 14 rfl rfl)
theorem dX5_init_38 : decode cX5_init 38 = .ok (.putfield 24, 3) := dk_181 0 24 (dk_at dksX5_init_1 15 rfl rfl)
theorem dX5_init_41 : decode cX5_init 41 = .ok (.aload_n 0, 1) := dk_42 (dk_at dksX5_init_1 18 rfl rfl)
theorem dX5_init_42 : decode cX5_init 42 = .ok (.iconst 4, 1) := dk_7 (dk_at dksX5_init_1 19 rfl rfl)
theorem dX5_init_43 : decode cX5_init 43 = .ok (.newarray .int, 2) := dk_188_10 (dk_at dksX5_init_1 20 rfl rfl)
theorem dX5_init_45 : decode cX5_init 45 = .ok (.putfield 27, 3) := dk_181 0 27 (dk_at dksX5_init_2 0 rfl rfl)
theorem dX5_init_48 : decode cX5_init 48 = .ok (.aload_n 0, 1) := dk_42 (dk_at dksX5_init_2 3 rfl rfl)
theorem dX5_init_49 : decode cX5_init 49 = .ok (.bipush 96, 2) := dk_16 96 (dk_at dksX5_init_2 4 rfl rfl)
theorem dX5_init_51 : decode cX5_init 51 = .ok (.newarray .int, 2) := dk_188_10 (dk_at dksX5_init_2 6 rfl rfl)
theorem dX5_init_53 : decode cX5_init 53 = .ok (.putfield 30, 3) := dk_181 0 30 (dk_at dksX5_init_2 8 rfl rfl)
theorem dX5_init_56 : decode cX5_init 56 = .ok (.aload_n 0, 1) := dk_42 (dk_at dksX5_init_2 11 rfl rfl)
theorem dX5_init_57 : decode cX5_init 57 = .ok (.bipush 96, 2) := dk_16 96 (dk_at dksX5_init_2 12 rfl rfl)
theorem dX5_init_59 : decode cX5_init 59 = .ok (.newarray .int, 2) := dk_188_10 (dk_at dksX5_init_2 14 rfl rfl)
theorem dX5_init_61 : decode cX5_init 61 = .ok (.putfield 33, 3) := dk_181 0 33 (dk_at dksX5_init_2 16 rfl rfl)
theorem dX5_init_64 : decode cX5_init 64 = .ok (.aload_n 0, 1) := dk_42 (dk_at dksX5_init_2 19 rfl rfl)
theorem dX5_init_65 : decode cX5_init 65 = .ok (.bipush 96, 2) := dk_16 96 (dk_at dksX5_init_2 20 rfl rfl)
theorem dX5_init_67 : decode cX5_init 67 = .ok (.newarray .int, 2) := dk_188_10 (dk_at dksX5_init_2 22 rfl rfl)
theorem dX5_init_69 : decode cX5_init 69 = .ok (.putfield 36, 3) := dk_181 0 36 (dk_at dksX5_init_3 0 rfl rfl)
theorem dX5_init_72 : decode cX5_init 72 = .ok (.aload_n 0, 1) := dk_42 (dk_at dksX5_init_3 3 rfl rfl)
theorem dX5_init_73 : decode cX5_init 73 = .ok (.bipush 96, 2) := dk_16 96 (dk_at dksX5_init_3 4 rfl rfl)
theorem dX5_init_75 : decode cX5_init 75 = .ok (.newarray .int, 2) := dk_188_10 (dk_at dksX5_init_3 6 rfl rfl)
theorem dX5_init_77 : decode cX5_init 77 = .ok (.putfield 39, 3) := dk_181 0 39 (dk_at dksX5_init_3 8 rfl rfl)
theorem dX5_init_80 : decode cX5_init 80 = .ok (.aload_n 0, 1) := dk_42 (dk_at dksX5_init_3 11 rfl rfl)
theorem dX5_init_81 : decode cX5_init 81 = .ok (.sipush 1600, 3) := dk_17 6 64 (dk_at dksX5_init_3 12 rfl rfl)
theorem dX5_init_84 : decode cX5_init 84 = .ok (.newarray .int, 2) := dk_188_10 (dk_at dksX5_init_3 15 rfl rfl)
theorem dX5_init_86 : decode cX5_init 86 = .ok (.putfield 42, 3) := dk_181 0 42 (dk_at dksX5_init_3 17 rfl rfl)
theorem dX5_init_89 : decode cX5_init 89 = .ok (.aload_n 0, 1) := dk_42 (dk_at dksX5_init_3 20 rfl rfl)
theorem dX5_init_90 : decode cX5_init 90 = .ok (.sipush 1600, 3) := dk_17 6 64 (dk_at dksX5_init_3 21 rfl rfl)
theorem dX5_init_93 : decode cX5_init 93 = .ok (.newarray .int, 2) := dk_188_10 (dk_at dksX5_init_4 0 rfl rfl)
theorem dX5_init_95 : decode cX5_init 95 = .ok (.putfield 45, 3) := dk_181 0 45 (dk_at dksX5_init_4 2 rfl rfl)
theorem dX5_init_98 : decode cX5_init 98 = .ok (.aload_n 0, 1) := dk_42 (dk_at dksX5_init_4 5 rfl rfl)
theorem dX5_init_99 : decode cX5_init 99 = .ok (.bipush 40, 2) := dk_16 40 (dk_at dksX5_init_4 6 rfl rfl)
theorem dX5_init_101 : decode cX5_init 101 = .ok (.newarray .int, 2) := dk_188_10 (dk_at dksX5_init_4 8 rfl rfl)
theorem dX5_init_103 : decode cX5_init 103 = .ok (.putfield 48, 3) := dk_181 0 48 (dk_at dksX5_init_4 10 rfl rfl)
theorem dX5_init_106 : decode cX5_init 106 = .ok (.aload_n 0, 1) := dk_42 (dk_at dksX5_init_4 13 rfl rfl)
theorem dX5_init_107 : decode cX5_init 107 = .ok (.bipush 41, 2) := dk_16 41 (dk_at dksX5_init_4 14 rfl rfl)
theorem dX5_init_109 : decode cX5_init 109 = .ok (.newarray .int, 2) := dk_188_10 (dk_at dksX5_init_4 16 rfl rfl)
theorem dX5_init_111 : decode cX5_init 111 = .ok (.putfield 51, 3) := dk_181 0 51 (dk_at dksX5_init_4 18 rfl rfl)
theorem dX5_init_114 : decode cX5_init 114 = .ok (.aload_n 0, 1) := dk_42 (dk_at dksX5_init_4 21 rfl rfl)
theorem dX5_init_115 : decode cX5_init 115 = .ok (.bipush 80, 2) := dk_16 80 (dk_at dksX5_init_4 22 rfl rfl)
theorem dX5_init_117 : decode cX5_init 117 = .ok (.newarray .int, 2) := dk_188_10 (dk_at dksX5_init_5 0 rfl rfl)
theorem dX5_init_119 : decode cX5_init 119 = .ok (.putfield 54, 3) := dk_181 0 54 (dk_at dksX5_init_5 2 rfl rfl)
theorem dX5_init_122 : decode cX5_init 122 = .ok (.aload_n 0, 1) := dk_42 (dk_at dksX5_init_5 5 rfl rfl)
theorem dX5_init_123 : decode cX5_init 123 = .ok (.bipush 80, 2) := dk_16 80 (dk_at dksX5_init_5 6 rfl rfl)
theorem dX5_init_125 : decode cX5_init 125 = .ok (.newarray .int, 2) := dk_188_10 (dk_at dksX5_init_5 8 rfl rfl)
theorem dX5_init_127 : decode cX5_init 127 = .ok (.putfield 57, 3) := dk_181 0 57 (dk_at dksX5_init_5 10 rfl rfl)
theorem dX5_init_130 : decode cX5_init 130 = .ok (.aload_n 0, 1) := dk_42 (dk_at dksX5_init_5 13 rfl rfl)
theorem dX5_init_131 : decode cX5_init 131 = .ok (.bipush 24, 2) := dk_16 24 (dk_at dksX5_init_5 14 rfl rfl)
theorem dX5_init_133 : decode cX5_init 133 = .ok (.newarray .int, 2) := dk_188_10 (dk_at dksX5_init_5 16 rfl rfl)
theorem dX5_init_135 : decode cX5_init 135 = .ok (.putfield 60, 3) := dk_181 0 60 (dk_at dksX5_init_5 18 rfl rfl)
theorem dX5_init_138 : decode cX5_init 138 = .ok (.aload_n 0, 1) := dk_42 (dk_at dksX5_init_5 21 rfl rfl)
theorem dX5_init_139 : decode cX5_init 139 = .ok (.bipush 24, 2) := dk_16 24 (dk_at dksX5_init_5 22 rfl rfl)
theorem dX5_init_141 : decode cX5_init 141 = .ok (.newarray .int, 2) := dk_188_10 (dk_at dksX5_init_6 0 rfl rfl)
theorem dX5_init_143 : decode cX5_init 143 = .ok (.putfield 63, 3) := dk_181 0 63 (dk_at dksX5_init_6 2 rfl rfl)
theorem dX5_init_146 : decode cX5_init 146 = .ok (.aload_n 0, 1) := dk_42 (dk_at dksX5_init_6 5 rfl rfl)
theorem dX5_init_147 : decode cX5_init 147 = .ok (.bipush 24, 2) := dk_16 24 (dk_at dksX5_init_6 6 rfl rfl)
theorem dX5_init_149 : decode cX5_init 149 = .ok (.newarray .int, 2) := dk_188_10 (dk_at dksX5_init_6 8 rfl rfl)
theorem dX5_init_151 : decode cX5_init 151 = .ok (.putfield 66, 3) := dk_181 0 66 (dk_at dksX5_init_6 10 rfl rfl)
theorem dX5_init_154 : decode cX5_init 154 = .ok (.aload_n 0, 1) := dk_42 (dk_at dksX5_init_6 13 rfl rfl)
theorem dX5_init_155 : decode cX5_init 155 = .ok (.bipush 24, 2) := dk_16 24 (dk_at dksX5_init_6 14 rfl rfl)
theorem dX5_init_157 : decode cX5_init 157 = .ok (.newarray .int, 2) := dk_188_10 (dk_at dksX5_init_6 16 rfl rfl)
theorem dX5_init_159 : decode cX5_init 159 = .ok (.putfield 69, 3) := dk_181 0 69 (dk_at dksX5_init_6 18 rfl rfl)
theorem dX5_init_162 : decode cX5_init 162 = .ok (.aload_n 0, 1) := dk_42 (dk_at dksX5_init_6 21 rfl rfl)
theorem dX5_init_163 : decode cX5_init 163 = .ok (.sipush 400, 3) := dk_17 1 144 (dk_at dksX5_init_7 0 rfl rfl)
theorem dX5_init_166 : decode cX5_init 166 = .ok (.newarray .int, 2) := dk_188_10 (dk_at dksX5_init_7 3 rfl rfl)
theorem dX5_init_168 : decode cX5_init 168 = .ok (.putfield 72, 3) := dk_181 0 72 (dk_at dksX5_init_7 5 rfl rfl)
theorem dX5_init_171 : decode cX5_init 171 = .ok (.aload_n 0, 1) := dk_42 (dk_at dksX5_init_7 8 rfl rfl)
theorem dX5_init_172 : decode cX5_init 172 = .ok (.sipush 400, 3) := dk_17 1 144 (dk_at dksX5_init_7 9 rfl rfl)
theorem dX5_init_175 : decode cX5_init 175 = .ok (.newarray .int, 2) := dk_188_10 (dk_at dksX5_init_7 12 rfl rfl)
theorem dX5_init_177 : decode cX5_init 177 = .ok (.putfield 75, 3) := dk_181 0 75 (dk_at dksX5_init_7 14 rfl rfl)
theorem dX5_init_180 : decode cX5_init 180 = .ok (.aload_n 0, 1) := dk_42 (dk_at dksX5_init_7 17 rfl rfl)
theorem dX5_init_181 : decode cX5_init 181 = .ok (.bipush 12, 2) := dk_16 12 (dk_at dksX5_init_7 18 rfl rfl)
theorem dX5_init_183 : decode cX5_init 183 = .ok (.newarray .int, 2) := dk_188_10 (dk_at dksX5_init_7 20 rfl rfl)
theorem dX5_init_185 : decode cX5_init 185 = .ok (.putfield 78, 3) := dk_181 0 78 (dk_at dksX5_init_8 0 rfl rfl)
theorem dX5_init_188 : decode cX5_init 188 = .ok (.aload_n 0, 1) := dk_42 (dk_at dksX5_init_8 3 rfl rfl)
theorem dX5_init_189 : decode cX5_init 189 = .ok (.sipush 200, 3) := dk_17 0 200 (dk_at dksX5_init_8 4 rfl rfl)
theorem dX5_init_192 : decode cX5_init 192 = .ok (.newarray .long, 2) := dk_188_11 (dk_at dksX5_init_8 7 rfl rfl)
theorem dX5_init_194 : decode cX5_init 194 = .ok (.putfield 81, 3) := dk_181 0 81 (dk_at dksX5_init_8 9 rfl rfl)
theorem dX5_init_197 : decode cX5_init 197 = .ok (.aload_n 0, 1) := dk_42 (dk_at dksX5_init_8 12 rfl rfl)
theorem dX5_init_198 : decode cX5_init 198 = .ok (.iconst 4, 1) := dk_7 (dk_at dksX5_init_8 13 rfl rfl)
theorem dX5_init_199 : decode cX5_init 199 = .ok (.newarray .int, 2) := dk_188_10 (dk_at dksX5_init_8 14 rfl rfl)
theorem dX5_init_201 : decode cX5_init 201 = .ok (.putfield 85, 3) := dk_181 0 85 (dk_at dksX5_init_8 16 rfl rfl)
theorem dX5_init_204 : decode cX5_init 204 = .ok (.aload_n 0, 1) := dk_42 (dk_at dksX5_init_8 19 rfl rfl)
theorem dX5_init_205 : decode cX5_init 205 = .ok (.bipush 9, 2) := dk_16 9 (dk_at dksX5_init_8 20 rfl rfl)
theorem dX5_init_207 : decode cX5_init 207 = .ok (.newarray .int, 2) := dk_188_10 (dk_at dksX5_init_8 22 rfl rfl)
theorem dX5_init_209 : decode cX5_init 209 = .ok (.putfield 88, 3) := dk_181 0 88 (dk_at dksX5_init_9 0 rfl rfl)
theorem dX5_init_212 : decode cX5_init 212 = .ok (.aload_n 0, 1) := dk_42 (dk_at dksX5_init_9 3 rfl rfl)
theorem dX5_init_213 : decode cX5_init 213 = .ok (.bipush 6, 2) := dk_16 6 (dk_at dksX5_init_9 4 rfl rfl)
theorem dX5_init_215 : decode cX5_init 215 = .ok (.newarray .int, 2) := dk_188_10 (dk_at dksX5_init_9 6 rfl rfl)
theorem dX5_init_217 : decode cX5_init 217 = .ok (.putfield 91, 3) := dk_181 0 91 (dk_at dksX5_init_9 8 rfl rfl)
theorem dX5_init_220 : decode cX5_init 220 = .ok (.aload_n 0, 1) := dk_42 (dk_at dksX5_init_9 11 rfl rfl)
theorem dX5_init_221 : decode cX5_init 221 = .ok (.bipush 6, 2) := dk_16 6 (dk_at dksX5_init_9 12 rfl rfl)
theorem dX5_init_223 : decode cX5_init 223 = .ok (.newarray .int, 2) := dk_188_10 (dk_at dksX5_init_9 14 rfl rfl)
theorem dX5_init_225 : decode cX5_init 225 = .ok (.putfield 94, 3) := dk_181 0 94 (dk_at dksX5_init_9 16 rfl rfl)
theorem dX5_init_228 : decode cX5_init 228 = .ok (.aload_n 0, 1) := dk_42 (dk_at dksX5_init_9 19 rfl rfl)
theorem dX5_init_229 : decode cX5_init 229 = .ok (.bipush 6, 2) := dk_16 6 (dk_at dksX5_init_9 20 rfl rfl)
theorem dX5_init_231 : decode cX5_init 231 = .ok (.newarray .int, 2) := dk_188_10 (dk_at dksX5_init_9 22 rfl rfl)
theorem dX5_init_233 : decode cX5_init 233 = .ok (.putfield 97, 3) := dk_181 0 97 (dk_at dksX5_init_10 0 rfl rfl)
theorem dX5_init_236 : decode cX5_init 236 = .ok (.aload_n 0, 1) := dk_42 (dk_at dksX5_init_10 3 rfl rfl)
theorem dX5_init_237 : decode cX5_init 237 = .ok (.iconst 4, 1) := dk_7 (dk_at dksX5_init_10 4 rfl rfl)
theorem dX5_init_238 : decode cX5_init 238 = .ok (.newarray .int, 2) := dk_188_10 (dk_at dksX5_init_10 5 rfl rfl)
theorem dX5_init_240 : decode cX5_init 240 = .ok (.putfield 100, 3) := dk_181 0 100 (dk_at dksX5_init_10 7 rfl rfl)
theorem dX5_init_243 : decode cX5_init 243 = .ok (.aload_n 0, 1) := dk_42 (dk_at dksX5_init_10 10 rfl rfl)
theorem dX5_init_244 : decode cX5_init 244 = .ok (.iconst 4, 1) := dk_7 (dk_at dksX5_init_10 11 rfl rfl)
theorem dX5_init_245 : decode cX5_init 245 = .ok (.newarray .int, 2) := dk_188_10 (dk_at dksX5_init_10 12 rfl rfl)
theorem dX5_init_247 : decode cX5_init 247 = .ok (.putfield 103, 3) := dk_181 0 103 (dk_at dksX5_init_10 14 rfl rfl)
theorem dX5_init_250 : decode cX5_init 250 = .ok (.aload_n 0, 1) := dk_42 (dk_at dksX5_init_10 17 rfl rfl)
theorem dX5_init_251 : decode cX5_init 251 = .ok (.getfield 7, 3) := dk_180 0 7 (dk_at dksX5_init_10 18 rfl rfl)
theorem dX5_init_254 : decode cX5_init 254 = .ok (.iconst 2, 1) := dk_5 (dk_at dksX5_init_10 21 rfl rfl)
theorem dX5_init_255 : decode cX5_init 255 = .ok (.iconst (-1), 1) := dk_2 (dk_at dksX5_init_10 22 rfl rfl)
theorem dX5_init_256 : decode cX5_init 256 = .ok (.iastore, 1) := dk_79 (dk_at dksX5_init_10 23 rfl rfl)
theorem dX5_init_257 : decode cX5_init 257 = .ok (.aload_n 0, 1) := dk_42 (dk_at dksX5_init_11 0 rfl rfl)
theorem dX5_init_258 : decode cX5_init 258 = .ok (.getfield 7, 3) := dk_180 0 7 (dk_at dksX5_init_11 1 rfl rfl)
theorem dX5_init_261 : decode cX5_init 261 = .ok (.sipush 464, 3) := dk_17 1 208 (dk_at dksX5_init_11 4 rfl rfl)
theorem dX5_init_264 : decode cX5_init 264 = .ok (.iconst 3, 1) := dk_6 (dk_at dksX5_init_11 7 rfl rfl)
theorem dX5_init_265 : decode cX5_init 265 = .ok (.iastore, 1) := dk_79 (dk_at dksX5_init_11 8 rfl rfl)
theorem dX5_init_266 : decode cX5_init 266 = .ok (.iconst 0, 1) := dk_3 (dk_at dksX5_init_11 9 rfl rfl)
theorem dX5_init_267 : decode cX5_init 267 = .ok (.istore_n 1, 1) := dk_60 (dk_at dksX5_init_11 10 rfl rfl)
theorem dX5_init_268 : decode cX5_init 268 = .ok (.iload_n 1, 1) := dk_27 (dk_at dksX5_init_11 11 rfl rfl)
theorem dX5_init_269 : decode cX5_init 269 = .ok (.bipush 9, 2) := dk_16 9 (dk_at dksX5_init_11 12 rfl rfl)
theorem dX5_init_271 : decode cX5_init 271 = .ok (.if_icmp .ge 19, 3) := dk_162 0 19 (dk_at dksX5_init_11 14 rfl rfl)
theorem dX5_init_274 : decode cX5_init 274 = .ok (.aload_n 0, 1) := dk_42 (dk_at dksX5_init_11 17 rfl rfl)
theorem dX5_init_275 : decode cX5_init 275 = .ok (.getfield 7, 3) := dk_180 0 7 (dk_at dksX5_init_11 18 rfl rfl)
theorem dX5_init_278 : decode cX5_init 278 = .ok (.bipush 114, 2) := dk_16 114 (dk_at dksX5_init_11 21 rfl rfl)
theorem dX5_init_280 : decode cX5_init 280 = .ok (.iload_n 1, 1) := dk_27 (dk_at dksX5_init_11 23 rfl rfl)
theorem dX5_init_281 : decode cX5_init 281 = .ok (.iadd, 1) := dk_96 (dk_at dksX5_init_12 0 rfl rfl)
theorem dX5_init_282 : decode cX5_init 282 = .ok (.iconst 2, 1) := dk_5 (dk_at dksX5_init_12 1 rfl rfl)
theorem dX5_init_283 : decode cX5_init 283 = .ok (.iastore, 1) := dk_79 (dk_at dksX5_init_12 2 rfl rfl)
theorem dX5_init_284 : decode cX5_init 284 = .ok (.iinc 1 1, 3) := dk_132 1 1 (dk_at dksX5_init_12 3 rfl rfl)
theorem dX5_init_287 : decode cX5_init 287 = .ok (.goto (-19), 3) := dk_167 255 237 (dk_at dksX5_init_12 6 rfl rfl)
theorem dX5_init_290 : decode cX5_init 290 = .ok (.aload_n 0, 1) := dk_42 (dk_at dksX5_init_12 9 rfl rfl)
theorem dX5_init_291 : decode cX5_init 291 = .ok (.iconst 1, 1) := dk_4 (dk_at dksX5_init_12 10 rfl rfl)
theorem dX5_init_292 : decode cX5_init 292 = .ok (.invokevirtual 106, 3) := dk_182 0 106 (dk_at dksX5_init_12 11 rfl rfl)
theorem dX5_init_295 : decode cX5_init 295 = .ok (.return_, 1) := dk_177 (dk_at dksX5_init_12 14 rfl rfl)
abbrev cX5_copies : ByteArray := prog_23_method_3_code
def yX5_copies : MethodName := ⟨RX5, "copies", "(Z)V"⟩
def dkwX5_copies_1 : List UInt8 := [79, 167, 0, 15, 42, 180, 0, 7, 28, 42, 180, 0, 13, 28, 46, 79, 132, 2, 1, 167, 255, 215, 177]
abbrev dktX5_copies_1 : List UInt8 := dkwX5_copies_1 ++ []
def dkwX5_copies_0 : List UInt8 := [3, 61, 28, 17, 43, 112, 162, 0, 40, 27, 153, 0, 18, 42, 180, 0, 13, 28, 42, 180, 0, 7, 28, 46]
abbrev dktX5_copies_0 : List UInt8 := dkwX5_copies_0 ++ dktX5_copies_1
theorem dksX5_copies_0 : cX5_copies.data.toList.drop 0 = dktX5_copies_0 := by decide +kernel
theorem dksX5_copies_1 : cX5_copies.data.toList.drop 24 = dktX5_copies_1 := dk_seg dksX5_copies_0 24 rfl rfl
theorem dX5_copies_0 : decode cX5_copies 0 = .ok (.iconst 0, 1) := dk_3 (dk_at dksX5_copies_0 0 rfl rfl)
theorem dX5_copies_1 : decode cX5_copies 1 = .ok (.istore_n 2, 1) := dk_61 (dk_at dksX5_copies_0 1 rfl rfl)
theorem dX5_copies_2 : decode cX5_copies 2 = .ok (.iload_n 2, 1) := dk_28 (dk_at dksX5_copies_0 2 rfl rfl)
theorem dX5_copies_3 : decode cX5_copies 3 = .ok (.sipush 11120, 3) := dk_17 43 112 (dk_at dksX5_copies_0 3 rfl rfl)
theorem dX5_copies_6 : decode cX5_copies 6 = .ok (.if_icmp .ge 40, 3) := dk_162 0 40 (dk_at dksX5_copies_0 6 rfl rfl)
theorem dX5_copies_9 : decode cX5_copies 9 = .ok (.iload_n 1, 1) := dk_27 (dk_at dksX5_copies_0 9 rfl rfl)
theorem dX5_copies_10 : decode cX5_copies 10 = .ok (.ifCond .eq 18, 3) := dk_153 0 18 (dk_at dksX5_copies_0 10 rfl rfl)
theorem dX5_copies_13 : decode cX5_copies 13 = .ok (.aload_n 0, 1) := dk_42 (dk_at dksX5_copies_0 13 rfl rfl)
theorem dX5_copies_14 : decode cX5_copies 14 = .ok (.getfield 13, 3) := dk_180 0 13 (dk_at dksX5_copies_0 14 rfl rfl)
theorem dX5_copies_17 : decode cX5_copies 17 = .ok (.iload_n 2, 1) := dk_28 (dk_at dksX5_copies_0 17 rfl rfl)
theorem dX5_copies_18 : decode cX5_copies 18 = .ok (.aload_n 0, 1) := dk_42 (dk_at dksX5_copies_0 18 rfl rfl)
theorem dX5_copies_19 : decode cX5_copies 19 = .ok (.getfield 7, 3) := dk_180 0 7 (dk_at dksX5_copies_0 19 rfl rfl)
theorem dX5_copies_22 : decode cX5_copies 22 = .ok (.iload_n 2, 1) := dk_28 (dk_at dksX5_copies_0 22 rfl rfl)
theorem dX5_copies_23 : decode cX5_copies 23 = .ok (.iaload, 1) := dk_46 (dk_at dksX5_copies_0 23 rfl rfl)
theorem dX5_copies_24 : decode cX5_copies 24 = .ok (.iastore, 1) := dk_79 (dk_at dksX5_copies_1 0 rfl rfl)
theorem dX5_copies_25 : decode cX5_copies 25 = .ok (.goto 15, 3) := dk_167 0 15 (dk_at dksX5_copies_1 1 rfl rfl)
theorem dX5_copies_28 : decode cX5_copies 28 = .ok (.aload_n 0, 1) := dk_42 (dk_at dksX5_copies_1 4 rfl rfl)
theorem dX5_copies_29 : decode cX5_copies 29 = .ok (.getfield 7, 3) := dk_180 0 7 (dk_at dksX5_copies_1 5 rfl rfl)
theorem dX5_copies_32 : decode cX5_copies 32 = .ok (.iload_n 2, 1) := dk_28 (dk_at dksX5_copies_1 8 rfl rfl)
theorem dX5_copies_33 : decode cX5_copies 33 = .ok (.aload_n 0, 1) := dk_42 (dk_at dksX5_copies_1 9 rfl rfl)
theorem dX5_copies_34 : decode cX5_copies 34 = .ok (.getfield 13, 3) := dk_180 0 13 (dk_at dksX5_copies_1 10 rfl rfl)
theorem dX5_copies_37 : decode cX5_copies 37 = .ok (.iload_n 2, 1) := dk_28 (dk_at dksX5_copies_1 13 rfl rfl)
theorem dX5_copies_38 : decode cX5_copies 38 = .ok (.iaload, 1) := dk_46 (dk_at dksX5_copies_1 14 rfl rfl)
theorem dX5_copies_39 : decode cX5_copies 39 = .ok (.iastore, 1) := dk_79 (dk_at dksX5_copies_1 15 rfl rfl)
theorem dX5_copies_40 : decode cX5_copies 40 = .ok (.iinc 2 1, 3) := dk_132 2 1 (dk_at dksX5_copies_1 16 rfl rfl)
theorem dX5_copies_43 : decode cX5_copies 43 = .ok (.goto (-41), 3) := dk_167 255 215 (dk_at dksX5_copies_1 19 rfl rfl)
theorem dX5_copies_46 : decode cX5_copies 46 = .ok (.return_, 1) := dk_177 (dk_at dksX5_copies_1 22 rfl rfl)
abbrev cX5_pot : ByteArray := prog_23_method_6_code
def yX5_pot : MethodName := ⟨RX5, "pot", "(III)Z"⟩
def dkwX5_pot_1 : List UInt8 := [154, 0, 5, 3, 172, 42, 180, 0, 7, 16, 110, 5, 27, 104, 96, 28, 96, 29, 79, 4, 172]
abbrev dktX5_pot_1 : List UInt8 := dkwX5_pot_1 ++ []
def dkwX5_pot_0 : List UInt8 := [27, 184, 0, 114, 153, 0, 21, 28, 184, 0, 114, 153, 0, 14, 29, 3, 17, 3, 231, 184, 0, 110]
abbrev dktX5_pot_0 : List UInt8 := dkwX5_pot_0 ++ dktX5_pot_1
theorem dksX5_pot_0 : cX5_pot.data.toList.drop 0 = dktX5_pot_0 := by decide +kernel
theorem dksX5_pot_1 : cX5_pot.data.toList.drop 22 = dktX5_pot_1 := dk_seg dksX5_pot_0 22 rfl rfl
theorem dX5_pot_0 : decode cX5_pot 0 = .ok (.iload_n 1, 1) := dk_27 (dk_at dksX5_pot_0 0 rfl rfl)
theorem dX5_pot_1 : decode cX5_pot 1 = .ok (.invokestatic 114, 3) := dk_184 0 114 (dk_at dksX5_pot_0 1 rfl rfl)
theorem dX5_pot_4 : decode cX5_pot 4 = .ok (.ifCond .eq 21, 3) := dk_153 0 21 (dk_at dksX5_pot_0 4 rfl rfl)
theorem dX5_pot_7 : decode cX5_pot 7 = .ok (.iload_n 2, 1) := dk_28 (dk_at dksX5_pot_0 7 rfl rfl)
theorem dX5_pot_8 : decode cX5_pot 8 = .ok (.invokestatic 114, 3) := dk_184 0 114 (dk_at dksX5_pot_0 8 rfl rfl)
theorem dX5_pot_11 : decode cX5_pot 11 = .ok (.ifCond .eq 14, 3) := dk_153 0 14 (dk_at dksX5_pot_0 11 rfl rfl)
theorem dX5_pot_14 : decode cX5_pot 14 = .ok (.iload_n 3, 1) := dk_29 (dk_at dksX5_pot_0 14 rfl rfl)
theorem dX5_pot_15 : decode cX5_pot 15 = .ok (.iconst 0, 1) := dk_3 (dk_at dksX5_pot_0 15 rfl rfl)
theorem dX5_pot_16 : decode cX5_pot 16 = .ok (.sipush 999, 3) := dk_17 3 231 (dk_at dksX5_pot_0 16 rfl rfl)
theorem dX5_pot_19 : decode cX5_pot 19 = .ok (.invokestatic 110, 3) := dk_184 0 110 (dk_at dksX5_pot_0 19 rfl rfl)
theorem dX5_pot_22 : decode cX5_pot 22 = .ok (.ifCond .ne 5, 3) := dk_154 0 5 (dk_at dksX5_pot_1 0 rfl rfl)
theorem dX5_pot_25 : decode cX5_pot 25 = .ok (.iconst 0, 1) := dk_3 (dk_at dksX5_pot_1 3 rfl rfl)
theorem dX5_pot_26 : decode cX5_pot 26 = .ok (.ireturn, 1) := dk_172 (dk_at dksX5_pot_1 4 rfl rfl)
theorem dX5_pot_27 : decode cX5_pot 27 = .ok (.aload_n 0, 1) := dk_42 (dk_at dksX5_pot_1 5 rfl rfl)
theorem dX5_pot_28 : decode cX5_pot 28 = .ok (.getfield 7, 3) := dk_180 0 7 (dk_at dksX5_pot_1 6 rfl rfl)
theorem dX5_pot_31 : decode cX5_pot 31 = .ok (.bipush 110, 2) := dk_16 110 (dk_at dksX5_pot_1 9 rfl rfl)
theorem dX5_pot_33 : decode cX5_pot 33 = .ok (.iconst 2, 1) := dk_5 (dk_at dksX5_pot_1 11 rfl rfl)
theorem dX5_pot_34 : decode cX5_pot 34 = .ok (.iload_n 1, 1) := dk_27 (dk_at dksX5_pot_1 12 rfl rfl)
theorem dX5_pot_35 : decode cX5_pot 35 = .ok (.imul, 1) := dk_104 (dk_at dksX5_pot_1 13 rfl rfl)
theorem dX5_pot_36 : decode cX5_pot 36 = .ok (.iadd, 1) := dk_96 (dk_at dksX5_pot_1 14 rfl rfl)
theorem dX5_pot_37 : decode cX5_pot 37 = .ok (.iload_n 2, 1) := dk_28 (dk_at dksX5_pot_1 15 rfl rfl)
theorem dX5_pot_38 : decode cX5_pot 38 = .ok (.iadd, 1) := dk_96 (dk_at dksX5_pot_1 16 rfl rfl)
theorem dX5_pot_39 : decode cX5_pot 39 = .ok (.iload_n 3, 1) := dk_29 (dk_at dksX5_pot_1 17 rfl rfl)
theorem dX5_pot_40 : decode cX5_pot 40 = .ok (.iastore, 1) := dk_79 (dk_at dksX5_pot_1 18 rfl rfl)
theorem dX5_pot_41 : decode cX5_pot 41 = .ok (.iconst 1, 1) := dk_4 (dk_at dksX5_pot_1 19 rfl rfl)
theorem dX5_pot_42 : decode cX5_pot 42 = .ok (.ireturn, 1) := dk_172 (dk_at dksX5_pot_1 20 rfl rfl)
abbrev cX5_isOne : ByteArray := prog_23_method_5_code
def yX5_isOne : MethodName := ⟨RX5, "isOne", "(I)Z"⟩
def dkwX5_isOne_0 : List UInt8 := [26, 153, 0, 8, 26, 4, 160, 0, 7, 4, 167, 0, 4, 3, 172]
abbrev dktX5_isOne_0 : List UInt8 := dkwX5_isOne_0 ++ []
theorem dksX5_isOne_0 : cX5_isOne.data.toList.drop 0 = dktX5_isOne_0 := by decide +kernel
theorem dX5_isOne_0 : decode cX5_isOne 0 = .ok (.iload_n 0, 1) := dk_26 (dk_at dksX5_isOne_0 0 rfl rfl)
theorem dX5_isOne_1 : decode cX5_isOne 1 = .ok (.ifCond .eq 8, 3) := dk_153 0 8 (dk_at dksX5_isOne_0 1 rfl rfl)
theorem dX5_isOne_4 : decode cX5_isOne 4 = .ok (.iload_n 0, 1) := dk_26 (dk_at dksX5_isOne_0 4 rfl rfl)
theorem dX5_isOne_5 : decode cX5_isOne 5 = .ok (.iconst 1, 1) := dk_4 (dk_at dksX5_isOne_0 5 rfl rfl)
theorem dX5_isOne_6 : decode cX5_isOne 6 = .ok (.if_icmp .ne 7, 3) := dk_160 0 7 (dk_at dksX5_isOne_0 6 rfl rfl)
theorem dX5_isOne_9 : decode cX5_isOne 9 = .ok (.iconst 1, 1) := dk_4 (dk_at dksX5_isOne_0 9 rfl rfl)
theorem dX5_isOne_10 : decode cX5_isOne 10 = .ok (.goto 4, 3) := dk_167 0 4 (dk_at dksX5_isOne_0 10 rfl rfl)
theorem dX5_isOne_13 : decode cX5_isOne 13 = .ok (.iconst 0, 1) := dk_3 (dk_at dksX5_isOne_0 13 rfl rfl)
theorem dX5_isOne_14 : decode cX5_isOne 14 = .ok (.ireturn, 1) := dk_172 (dk_at dksX5_isOne_0 14 rfl rfl)
abbrev cX5_in : ByteArray := prog_23_method_2_code
def yX5_in : MethodName := ⟨RX5, "in", "(III)Z"⟩
def dkwX5_in_0 : List UInt8 := [26, 27, 161, 0, 12, 26, 28, 163, 0, 7, 4, 167, 0, 4, 3, 172]
abbrev dktX5_in_0 : List UInt8 := dkwX5_in_0 ++ []
theorem dksX5_in_0 : cX5_in.data.toList.drop 0 = dktX5_in_0 := by decide +kernel
theorem dX5_in_0 : decode cX5_in 0 = .ok (.iload_n 0, 1) := dk_26 (dk_at dksX5_in_0 0 rfl rfl)
theorem dX5_in_1 : decode cX5_in 1 = .ok (.iload_n 1, 1) := dk_27 (dk_at dksX5_in_0 1 rfl rfl)
theorem dX5_in_2 : decode cX5_in 2 = .ok (.if_icmp .lt 12, 3) := dk_161 0 12 (dk_at dksX5_in_0 2 rfl rfl)
theorem dX5_in_5 : decode cX5_in 5 = .ok (.iload_n 0, 1) := dk_26 (dk_at dksX5_in_0 5 rfl rfl)
theorem dX5_in_6 : decode cX5_in 6 = .ok (.iload_n 2, 1) := dk_28 (dk_at dksX5_in_0 6 rfl rfl)
theorem dX5_in_7 : decode cX5_in 7 = .ok (.if_icmp .gt 7, 3) := dk_163 0 7 (dk_at dksX5_in_0 7 rfl rfl)
theorem dX5_in_10 : decode cX5_in 10 = .ok (.iconst 1, 1) := dk_4 (dk_at dksX5_in_0 10 rfl rfl)
theorem dX5_in_11 : decode cX5_in 11 = .ok (.goto 4, 3) := dk_167 0 4 (dk_at dksX5_in_0 11 rfl rfl)
theorem dX5_in_14 : decode cX5_in 14 = .ok (.iconst 0, 1) := dk_3 (dk_at dksX5_in_0 14 rfl rfl)
theorem dX5_in_15 : decode cX5_in 15 = .ok (.ireturn, 1) := dk_172 (dk_at dksX5_in_0 15 rfl rfl)
abbrev cX5_eater : ByteArray := prog_23_method_7_code
def yX5_eater : MethodName := ⟨RX5, "eater", "(III)I"⟩
def dkwX5_eater_6 : List UInt8 := [46, 4, 96, 79, 21, 4, 172]
abbrev dktX5_eater_6 : List UInt8 := dkwX5_eater_6 ++ []
def dkwX5_eater_5 : List UInt8 := [96, 16, 114, 96, 16, 110, 100, 21, 4, 96, 5, 79, 132, 5, 1, 167, 255, 217, 42, 180, 0, 7, 3, 92]
abbrev dktX5_eater_5 : List UInt8 := dkwX5_eater_5 ++ dktX5_eater_6
def dkwX5_eater_4 : List UInt8 := [21, 5, 42, 180, 0, 7, 6, 46, 162, 0, 34, 42, 180, 0, 7, 17, 1, 214, 17, 1, 99, 21, 5, 104]
abbrev dktX5_eater_4 : List UInt8 := dkwX5_eater_4 ++ dktX5_eater_5
def dkwX5_eater_3 : List UInt8 := [96, 4, 96, 28, 79, 42, 180, 0, 7, 16, 10, 6, 21, 4, 104, 96, 5, 96, 29, 79, 3, 54, 5]
abbrev dktX5_eater_3 : List UInt8 := dkwX5_eater_3 ++ dktX5_eater_4
def dkwX5_eater_2 : List UInt8 := [172, 42, 180, 0, 7, 16, 10, 6, 21, 4, 104, 96, 27, 79, 42, 180, 0, 7, 16, 10, 6, 21, 4, 104]
abbrev dktX5_eater_2 : List UInt8 := dkwX5_eater_2 ++ dktX5_eater_3
def dkwX5_eater_1 : List UInt8 := [184, 0, 110, 153, 0, 20, 29, 3, 16, 99, 184, 0, 110, 153, 0, 10, 21, 4, 16, 9, 160, 0, 5, 2]
abbrev dktX5_eater_1 : List UInt8 := dkwX5_eater_1 ++ dktX5_eater_2
def dkwX5_eater_0 : List UInt8 := [42, 180, 0, 7, 3, 46, 54, 4, 27, 3, 16, 9, 184, 0, 110, 153, 0, 30, 28, 4, 16, 9]
abbrev dktX5_eater_0 : List UInt8 := dkwX5_eater_0 ++ dktX5_eater_1
theorem dksX5_eater_0 : cX5_eater.data.toList.drop 0 = dktX5_eater_0 := by decide +kernel
theorem dksX5_eater_1 : cX5_eater.data.toList.drop 22 = dktX5_eater_1 := dk_seg dksX5_eater_0 22 rfl rfl
theorem dksX5_eater_2 : cX5_eater.data.toList.drop 46 = dktX5_eater_2 := dk_seg dksX5_eater_1 24 rfl rfl
theorem dksX5_eater_3 : cX5_eater.data.toList.drop 70 = dktX5_eater_3 := dk_seg dksX5_eater_2 24 rfl rfl
theorem dksX5_eater_4 : cX5_eater.data.toList.drop 93 = dktX5_eater_4 := dk_seg dksX5_eater_3 23 rfl rfl
theorem dksX5_eater_5 : cX5_eater.data.toList.drop 117 = dktX5_eater_5 := dk_seg dksX5_eater_4 24 rfl rfl
theorem dksX5_eater_6 : cX5_eater.data.toList.drop 141 = dktX5_eater_6 := dk_seg dksX5_eater_5 24 rfl rfl
theorem dX5_eater_0 : decode cX5_eater 0 = .ok (.aload_n 0, 1) := dk_42 (dk_at dksX5_eater_0 0 rfl rfl)
theorem dX5_eater_1 : decode cX5_eater 1 = .ok (.getfield 7, 3) := dk_180 0 7 (dk_at dksX5_eater_0 1 rfl rfl)
theorem dX5_eater_4 : decode cX5_eater 4 = .ok (.iconst 0, 1) := dk_3 (dk_at dksX5_eater_0 4 rfl rfl)
theorem dX5_eater_5 : decode cX5_eater 5 = .ok (.iaload, 1) := dk_46 (dk_at dksX5_eater_0 5 rfl rfl)
theorem dX5_eater_6 : decode cX5_eater 6 = .ok (.istore 4, 2) := dk_54 4 (dk_at dksX5_eater_0 6 rfl rfl)
theorem dX5_eater_8 : decode cX5_eater 8 = .ok (.iload_n 1, 1) := dk_27 (dk_at dksX5_eater_0 8 rfl rfl)
theorem dX5_eater_9 : decode cX5_eater 9 = .ok (.iconst 0, 1) := dk_3 (dk_at dksX5_eater_0 9 rfl rfl)
theorem dX5_eater_10 : decode cX5_eater 10 = .ok (.bipush 9, 2) := dk_16 9 (dk_at dksX5_eater_0 10 rfl rfl)
theorem dX5_eater_12 : decode cX5_eater 12 = .ok (.invokestatic 110, 3) := dk_184 0 110 (dk_at dksX5_eater_0 12 rfl rfl)
theorem dX5_eater_15 : decode cX5_eater 15 = .ok (.ifCond .eq 30, 3) := dk_153 0 30 (dk_at dksX5_eater_0 15 rfl rfl)
theorem dX5_eater_18 : decode cX5_eater 18 = .ok (.iload_n 2, 1) := dk_28 (dk_at dksX5_eater_0 18 rfl rfl)
theorem dX5_eater_19 : decode cX5_eater 19 = .ok (.iconst 1, 1) := dk_4 (dk_at dksX5_eater_0 19 rfl rfl)
theorem dX5_eater_20 : decode cX5_eater 20 = .ok (.bipush 9, 2) := dk_16 9 (dk_at dksX5_eater_0 20 rfl rfl)
theorem dX5_eater_22 : decode cX5_eater 22 = .ok (.invokestatic 110, 3) := dk_184 0 110 (dk_at dksX5_eater_1 0 rfl rfl)
theorem dX5_eater_25 : decode cX5_eater 25 = .ok (.ifCond .eq 20, 3) := dk_153 0 20 (dk_at dksX5_eater_1 3 rfl rfl)
theorem dX5_eater_28 : decode cX5_eater 28 = .ok (.iload_n 3, 1) := dk_29 (dk_at dksX5_eater_1 6 rfl rfl)
theorem dX5_eater_29 : decode cX5_eater 29 = .ok (.iconst 0, 1) := dk_3 (dk_at dksX5_eater_1 7 rfl rfl)
theorem dX5_eater_30 : decode cX5_eater 30 = .ok (.bipush 99, 2) := dk_16 99 (dk_at dksX5_eater_1 8 rfl rfl)
theorem dX5_eater_32 : decode cX5_eater 32 = .ok (.invokestatic 110, 3) := dk_184 0 110 (dk_at dksX5_eater_1 10 rfl rfl)
theorem dX5_eater_35 : decode cX5_eater 35 = .ok (.ifCond .eq 10, 3) := dk_153 0 10 (dk_at dksX5_eater_1 13 rfl rfl)
theorem dX5_eater_38 : decode cX5_eater 38 = .ok (.iload 4, 2) := dk_21 4 (dk_at dksX5_eater_1 16 rfl rfl)
theorem dX5_eater_40 : decode cX5_eater 40 = .ok (.bipush 9, 2) := dk_16 9 (dk_at dksX5_eater_1 18 rfl rfl)
theorem dX5_eater_42 : decode cX5_eater 42 = .ok (.if_icmp .ne 5, 3) := dk_160 0 5 (dk_at dksX5_eater_1 20 rfl rfl)
theorem dX5_eater_45 : decode cX5_eater 45 = .ok (.iconst (-1), 1) := dk_2 (dk_at dksX5_eater_1 23 rfl rfl)
theorem dX5_eater_46 : decode cX5_eater 46 = .ok (.ireturn, 1) := dk_172 (dk_at dksX5_eater_2 0 rfl rfl)
theorem dX5_eater_47 : decode cX5_eater 47 = .ok (.aload_n 0, 1) := dk_42 (dk_at dksX5_eater_2 1 rfl rfl)
theorem dX5_eater_48 : decode cX5_eater 48 = .ok (.getfield 7, 3) := dk_180 0 7 (dk_at dksX5_eater_2 2 rfl rfl)
theorem dX5_eater_51 : decode cX5_eater 51 = .ok (.bipush 10, 2) := dk_16 10 (dk_at dksX5_eater_2 5 rfl rfl)
theorem dX5_eater_53 : decode cX5_eater 53 = .ok (.iconst 3, 1) := dk_6 (dk_at dksX5_eater_2 7 rfl rfl)
theorem dX5_eater_54 : decode cX5_eater 54 = .ok (.iload 4, 2) := dk_21 4 (dk_at dksX5_eater_2 8 rfl rfl)
theorem dX5_eater_56 : decode cX5_eater 56 = .ok (.imul, 1) := dk_104 (dk_at dksX5_eater_2 10 rfl rfl)
theorem dX5_eater_57 : decode cX5_eater 57 = .ok (.iadd, 1) := dk_96 (dk_at dksX5_eater_2 11 rfl rfl)
theorem dX5_eater_58 : decode cX5_eater 58 = .ok (.iload_n 1, 1) := dk_27 (dk_at dksX5_eater_2 12 rfl rfl)
theorem dX5_eater_59 : decode cX5_eater 59 = .ok (.iastore, 1) := dk_79 (dk_at dksX5_eater_2 13 rfl rfl)
theorem dX5_eater_60 : decode cX5_eater 60 = .ok (.aload_n 0, 1) := dk_42 (dk_at dksX5_eater_2 14 rfl rfl)
theorem dX5_eater_61 : decode cX5_eater 61 = .ok (.getfield 7, 3) := dk_180 0 7 (dk_at dksX5_eater_2 15 rfl rfl)
theorem dX5_eater_64 : decode cX5_eater 64 = .ok (.bipush 10, 2) := dk_16 10 (dk_at dksX5_eater_2 18 rfl rfl)
theorem dX5_eater_66 : decode cX5_eater 66 = .ok (.iconst 3, 1) := dk_6 (dk_at dksX5_eater_2 20 rfl rfl)
theorem dX5_eater_67 : decode cX5_eater 67 = .ok (.iload 4, 2) := dk_21 4 (dk_at dksX5_eater_2 21 rfl rfl)
theorem dX5_eater_69 : decode cX5_eater 69 = .ok (.imul, 1) := dk_104 (dk_at dksX5_eater_2 23 rfl rfl)
theorem dX5_eater_70 : decode cX5_eater 70 = .ok (.iadd, 1) := dk_96 (dk_at dksX5_eater_3 0 rfl rfl)
theorem dX5_eater_71 : decode cX5_eater 71 = .ok (.iconst 1, 1) := dk_4 (dk_at dksX5_eater_3 1 rfl rfl)
theorem dX5_eater_72 : decode cX5_eater 72 = .ok (.iadd, 1) := dk_96 (dk_at dksX5_eater_3 2 rfl rfl)
theorem dX5_eater_73 : decode cX5_eater 73 = .ok (.iload_n 2, 1) := dk_28 (dk_at dksX5_eater_3 3 rfl rfl)
theorem dX5_eater_74 : decode cX5_eater 74 = .ok (.iastore, 1) := dk_79 (dk_at dksX5_eater_3 4 rfl rfl)
theorem dX5_eater_75 : decode cX5_eater 75 = .ok (.aload_n 0, 1) := dk_42 (dk_at dksX5_eater_3 5 rfl rfl)
theorem dX5_eater_76 : decode cX5_eater 76 = .ok (.getfield 7, 3) := dk_180 0 7 (dk_at dksX5_eater_3 6 rfl rfl)
theorem dX5_eater_79 : decode cX5_eater 79 = .ok (.bipush 10, 2) := dk_16 10 (dk_at dksX5_eater_3 9 rfl rfl)
theorem dX5_eater_81 : decode cX5_eater 81 = .ok (.iconst 3, 1) := dk_6 (dk_at dksX5_eater_3 11 rfl rfl)
theorem dX5_eater_82 : decode cX5_eater 82 = .ok (.iload 4, 2) := dk_21 4 (dk_at dksX5_eater_3 12 rfl rfl)
theorem dX5_eater_84 : decode cX5_eater 84 = .ok (.imul, 1) := dk_104 (dk_at dksX5_eater_3 14 rfl rfl)
theorem dX5_eater_85 : decode cX5_eater 85 = .ok (.iadd, 1) := dk_96 (dk_at dksX5_eater_3 15 rfl rfl)
theorem dX5_eater_86 : decode cX5_eater 86 = .ok (.iconst 2, 1) := dk_5 (dk_at dksX5_eater_3 16 rfl rfl)
theorem dX5_eater_87 : decode cX5_eater 87 = .ok (.iadd, 1) := dk_96 (dk_at dksX5_eater_3 17 rfl rfl)
theorem dX5_eater_88 : decode cX5_eater 88 = .ok (.iload_n 3, 1) := dk_29 (dk_at dksX5_eater_3 18 rfl rfl)
theorem dX5_eater_89 : decode cX5_eater 89 = .ok (.iastore, 1) := dk_79 (dk_at dksX5_eater_3 19 rfl rfl)
theorem dX5_eater_90 : decode cX5_eater 90 = .ok (.iconst 0, 1) := dk_3 (dk_at dksX5_eater_3 20 rfl rfl)
theorem dX5_eater_91 : decode cX5_eater 91 = .ok (.istore 5, 2) := dk_54 5 (dk_at dksX5_eater_3 21 rfl rfl)
theorem dX5_eater_93 : decode cX5_eater 93 = .ok (.iload 5, 2) := dk_21 5 (dk_at dksX5_eater_4 0 rfl rfl)
theorem dX5_eater_95 : decode cX5_eater 95 = .ok (.aload_n 0, 1) := dk_42 (dk_at dksX5_eater_4 2 rfl rfl)
theorem dX5_eater_96 : decode cX5_eater 96 = .ok (.getfield 7, 3) := dk_180 0 7 (dk_at dksX5_eater_4 3 rfl rfl)
theorem dX5_eater_99 : decode cX5_eater 99 = .ok (.iconst 3, 1) := dk_6 (dk_at dksX5_eater_4 6 rfl rfl)
theorem dX5_eater_100 : decode cX5_eater 100 = .ok (.iaload, 1) := dk_46 (dk_at dksX5_eater_4 7 rfl rfl)
theorem dX5_eater_101 : decode cX5_eater 101 = .ok (.if_icmp .ge 34, 3) := dk_162 0 34 (dk_at dksX5_eater_4 8 rfl rfl)
theorem dX5_eater_104 : decode cX5_eater 104 = .ok (.aload_n 0, 1) := dk_42 (dk_at dksX5_eater_4 11 rfl rfl)
theorem dX5_eater_105 : decode cX5_eater 105 = .ok (.getfield 7, 3) := dk_180 0 7 (dk_at dksX5_eater_4 12 rfl rfl)
theorem dX5_eater_108 : decode cX5_eater 108 = .ok (.sipush 470, 3) := dk_17 1 214 (dk_at dksX5_eater_4 15 rfl rfl)
theorem dX5_eater_111 : decode cX5_eater 111 = .ok (.sipush 355, 3) := dk_17 1 99 (dk_at dksX5_eater_4 18 rfl rfl)
theorem dX5_eater_114 : decode cX5_eater 114 = .ok (.iload 5, 2) := dk_21 5 (dk_at dksX5_eater_4 21 rfl rfl)
theorem dX5_eater_116 : decode cX5_eater 116 = .ok (.imul, 1) := dk_104 (dk_at dksX5_eater_4 23 rfl rfl)
theorem dX5_eater_117 : decode cX5_eater 117 = .ok (.iadd, 1) := dk_96 (dk_at dksX5_eater_5 0 rfl rfl)
theorem dX5_eater_118 : decode cX5_eater 118 = .ok (.bipush 114, 2) := dk_16 114 (dk_at dksX5_eater_5 1 rfl rfl)
theorem dX5_eater_120 : decode cX5_eater 120 = .ok (.iadd, 1) := dk_96 (dk_at dksX5_eater_5 3 rfl rfl)
theorem dX5_eater_121 : decode cX5_eater 121 = .ok (.bipush 110, 2) := dk_16 110 (dk_at dksX5_eater_5 4 rfl rfl)
theorem dX5_eater_123 : decode cX5_eater 123 = .ok (.isub, 1) := dk_100 (dk_at dksX5_eater_5 6 rfl rfl)
theorem dX5_eater_124 : decode cX5_eater 124 = .ok (.iload 4, 2) := dk_21 4 (dk_at dksX5_eater_5 7 rfl rfl)
theorem dX5_eater_126 : decode cX5_eater 126 = .ok (.iadd, 1) := dk_96 (dk_at dksX5_eater_5 9 rfl rfl)
theorem dX5_eater_127 : decode cX5_eater 127 = .ok (.iconst 2, 1) := dk_5 (dk_at dksX5_eater_5 10 rfl rfl)
theorem dX5_eater_128 : decode cX5_eater 128 = .ok (.iastore, 1) := dk_79 (dk_at dksX5_eater_5 11 rfl rfl)
theorem dX5_eater_129 : decode cX5_eater 129 = .ok (.iinc 5 1, 3) := dk_132 5 1 (dk_at dksX5_eater_5 12 rfl rfl)
theorem dX5_eater_132 : decode cX5_eater 132 = .ok (.goto (-39), 3) := dk_167 255 217 (dk_at dksX5_eater_5 15 rfl rfl)
theorem dX5_eater_135 : decode cX5_eater 135 = .ok (.aload_n 0, 1) := dk_42 (dk_at dksX5_eater_5 18 rfl rfl)
theorem dX5_eater_136 : decode cX5_eater 136 = .ok (.getfield 7, 3) := dk_180 0 7 (dk_at dksX5_eater_5 19 rfl rfl)
theorem dX5_eater_139 : decode cX5_eater 139 = .ok (.iconst 0, 1) := dk_3 (dk_at dksX5_eater_5 22 rfl rfl)
theorem dX5_eater_140 : decode cX5_eater 140 = .ok (.dup2, 1) := dk_92 (dk_at dksX5_eater_5 23 rfl rfl)
theorem dX5_eater_141 : decode cX5_eater 141 = .ok (.iaload, 1) := dk_46 (dk_at dksX5_eater_6 0 rfl rfl)
theorem dX5_eater_142 : decode cX5_eater 142 = .ok (.iconst 1, 1) := dk_4 (dk_at dksX5_eater_6 1 rfl rfl)
theorem dX5_eater_143 : decode cX5_eater 143 = .ok (.iadd, 1) := dk_96 (dk_at dksX5_eater_6 2 rfl rfl)
theorem dX5_eater_144 : decode cX5_eater 144 = .ok (.iastore, 1) := dk_79 (dk_at dksX5_eater_6 3 rfl rfl)
theorem dX5_eater_145 : decode cX5_eater 145 = .ok (.iload 4, 2) := dk_21 4 (dk_at dksX5_eater_6 4 rfl rfl)
theorem dX5_eater_147 : decode cX5_eater 147 = .ok (.ireturn, 1) := dk_172 (dk_at dksX5_eater_6 6 rfl rfl)
abbrev cX5_seed : ByteArray := prog_23_method_8_code
def yX5_seed : MethodName := ⟨RX5, "seed", "(I)Z"⟩
def dkwX5_seed_1 : List UInt8 := [96, 79, 4, 172]
abbrev dktX5_seed_1 : List UInt8 := dkwX5_seed_1 ++ []
def dkwX5_seed_0 : List UInt8 := [27, 3, 17, 39, 15, 184, 0, 110, 154, 0, 5, 3, 172, 42, 180, 0, 7, 17, 1, 208, 27, 8, 104, 6]
abbrev dktX5_seed_0 : List UInt8 := dkwX5_seed_0 ++ dktX5_seed_1
theorem dksX5_seed_0 : cX5_seed.data.toList.drop 0 = dktX5_seed_0 := by decide +kernel
theorem dksX5_seed_1 : cX5_seed.data.toList.drop 24 = dktX5_seed_1 := dk_seg dksX5_seed_0 24 rfl rfl
theorem dX5_seed_0 : decode cX5_seed 0 = .ok (.iload_n 1, 1) := dk_27 (dk_at dksX5_seed_0 0 rfl rfl)
theorem dX5_seed_1 : decode cX5_seed 1 = .ok (.iconst 0, 1) := dk_3 (dk_at dksX5_seed_0 1 rfl rfl)
theorem dX5_seed_2 : decode cX5_seed 2 = .ok (.sipush 9999, 3) := dk_17 39 15 (dk_at dksX5_seed_0 2 rfl rfl)
theorem dX5_seed_5 : decode cX5_seed 5 = .ok (.invokestatic 110, 3) := dk_184 0 110 (dk_at dksX5_seed_0 5 rfl rfl)
theorem dX5_seed_8 : decode cX5_seed 8 = .ok (.ifCond .ne 5, 3) := dk_154 0 5 (dk_at dksX5_seed_0 8 rfl rfl)
theorem dX5_seed_11 : decode cX5_seed 11 = .ok (.iconst 0, 1) := dk_3 (dk_at dksX5_seed_0 11 rfl rfl)
theorem dX5_seed_12 : decode cX5_seed 12 = .ok (.ireturn, 1) := dk_172 (dk_at dksX5_seed_0 12 rfl rfl)
theorem dX5_seed_13 : decode cX5_seed 13 = .ok (.aload_n 0, 1) := dk_42 (dk_at dksX5_seed_0 13 rfl rfl)
theorem dX5_seed_14 : decode cX5_seed 14 = .ok (.getfield 7, 3) := dk_180 0 7 (dk_at dksX5_seed_0 14 rfl rfl)
theorem dX5_seed_17 : decode cX5_seed 17 = .ok (.sipush 464, 3) := dk_17 1 208 (dk_at dksX5_seed_0 17 rfl rfl)
theorem dX5_seed_20 : decode cX5_seed 20 = .ok (.iload_n 1, 1) := dk_27 (dk_at dksX5_seed_0 20 rfl rfl)
theorem dX5_seed_21 : decode cX5_seed 21 = .ok (.iconst 5, 1) := dk_8 (dk_at dksX5_seed_0 21 rfl rfl)
theorem dX5_seed_22 : decode cX5_seed 22 = .ok (.imul, 1) := dk_104 (dk_at dksX5_seed_0 22 rfl rfl)
theorem dX5_seed_23 : decode cX5_seed 23 = .ok (.iconst 3, 1) := dk_6 (dk_at dksX5_seed_0 23 rfl rfl)
theorem dX5_seed_24 : decode cX5_seed 24 = .ok (.iadd, 1) := dk_96 (dk_at dksX5_seed_1 0 rfl rfl)
theorem dX5_seed_25 : decode cX5_seed 25 = .ok (.iastore, 1) := dk_79 (dk_at dksX5_seed_1 1 rfl rfl)
theorem dX5_seed_26 : decode cX5_seed 26 = .ok (.iconst 1, 1) := dk_4 (dk_at dksX5_seed_1 2 rfl rfl)
theorem dX5_seed_27 : decode cX5_seed 27 = .ok (.ireturn, 1) := dk_172 (dk_at dksX5_seed_1 3 rfl rfl)
abbrev cX5_undo : ByteArray := prog_23_method_10_code
def yX5_undo : MethodName := ⟨RX5, "undo", "()I"⟩
def dkwX5_undo_3 : List UInt8 := [172]
abbrev dktX5_undo_3 : List UInt8 := dkwX5_undo_3 ++ []
def dkwX5_undo_2 : List UInt8 := [42, 180, 0, 7, 6, 46, 104, 96, 27, 96, 46, 79, 132, 1, 1, 167, 255, 216, 42, 180, 0, 7, 6, 46]
abbrev dktX5_undo_2 : List UInt8 := dkwX5_undo_2 ++ dktX5_undo_3
def dkwX5_undo_1 : List UInt8 := [17, 1, 99, 162, 0, 39, 42, 180, 0, 7, 16, 110, 27, 96, 42, 180, 0, 7, 17, 1, 214, 17, 1, 99]
abbrev dktX5_undo_1 : List UInt8 := dkwX5_undo_1 ++ dktX5_undo_2
def dkwX5_undo_0 : List UInt8 := [42, 180, 0, 7, 6, 46, 154, 0, 5, 2, 172, 42, 180, 0, 7, 6, 92, 46, 4, 100, 79, 3, 60, 27]
abbrev dktX5_undo_0 : List UInt8 := dkwX5_undo_0 ++ dktX5_undo_1
theorem dksX5_undo_0 : cX5_undo.data.toList.drop 0 = dktX5_undo_0 := by decide +kernel
theorem dksX5_undo_1 : cX5_undo.data.toList.drop 24 = dktX5_undo_1 := dk_seg dksX5_undo_0 24 rfl rfl
theorem dksX5_undo_2 : cX5_undo.data.toList.drop 48 = dktX5_undo_2 := dk_seg dksX5_undo_1 24 rfl rfl
theorem dksX5_undo_3 : cX5_undo.data.toList.drop 72 = dktX5_undo_3 := dk_seg dksX5_undo_2 24 rfl rfl
theorem dX5_undo_0 : decode cX5_undo 0 = .ok (.aload_n 0, 1) := dk_42 (dk_at dksX5_undo_0 0 rfl rfl)
theorem dX5_undo_1 : decode cX5_undo 1 = .ok (.getfield 7, 3) := dk_180 0 7 (dk_at dksX5_undo_0 1 rfl rfl)
theorem dX5_undo_4 : decode cX5_undo 4 = .ok (.iconst 3, 1) := dk_6 (dk_at dksX5_undo_0 4 rfl rfl)
theorem dX5_undo_5 : decode cX5_undo 5 = .ok (.iaload, 1) := dk_46 (dk_at dksX5_undo_0 5 rfl rfl)
theorem dX5_undo_6 : decode cX5_undo 6 = .ok (.ifCond .ne 5, 3) := dk_154 0 5 (dk_at dksX5_undo_0 6 rfl rfl)
theorem dX5_undo_9 : decode cX5_undo 9 = .ok (.iconst (-1), 1) := dk_2 (dk_at dksX5_undo_0 9 rfl rfl)
theorem dX5_undo_10 : decode cX5_undo 10 = .ok (.ireturn, 1) := dk_172 (dk_at dksX5_undo_0 10 rfl rfl)
theorem dX5_undo_11 : decode cX5_undo 11 = .ok (.aload_n 0, 1) := dk_42 (dk_at dksX5_undo_0 11 rfl rfl)
theorem dX5_undo_12 : decode cX5_undo 12 = .ok (.getfield 7, 3) := dk_180 0 7 (dk_at dksX5_undo_0 12 rfl rfl)
theorem dX5_undo_15 : decode cX5_undo 15 = .ok (.iconst 3, 1) := dk_6 (dk_at dksX5_undo_0 15 rfl rfl)
theorem dX5_undo_16 : decode cX5_undo 16 = .ok (.dup2, 1) := dk_92 (dk_at dksX5_undo_0 16 rfl rfl)
theorem dX5_undo_17 : decode cX5_undo 17 = .ok (.iaload, 1) := dk_46 (dk_at dksX5_undo_0 17 rfl rfl)
theorem dX5_undo_18 : decode cX5_undo 18 = .ok (.iconst 1, 1) := dk_4 (dk_at dksX5_undo_0 18 rfl rfl)
theorem dX5_undo_19 : decode cX5_undo 19 = .ok (.isub, 1) := dk_100 (dk_at dksX5_undo_0 19 rfl rfl)
theorem dX5_undo_20 : decode cX5_undo 20 = .ok (.iastore, 1) := dk_79 (dk_at dksX5_undo_0 20 rfl rfl)
theorem dX5_undo_21 : decode cX5_undo 21 = .ok (.iconst 0, 1) := dk_3 (dk_at dksX5_undo_0 21 rfl rfl)
theorem dX5_undo_22 : decode cX5_undo 22 = .ok (.istore_n 1, 1) := dk_60 (dk_at dksX5_undo_0 22 rfl rfl)
theorem dX5_undo_23 : decode cX5_undo 23 = .ok (.iload_n 1, 1) := dk_27 (dk_at dksX5_undo_0 23 rfl rfl)
theorem dX5_undo_24 : decode cX5_undo 24 = .ok (.sipush 355, 3) := dk_17 1 99 (dk_at dksX5_undo_1 0 rfl rfl)
theorem dX5_undo_27 : decode cX5_undo 27 = .ok (.if_icmp .ge 39, 3) := dk_162 0 39 (dk_at dksX5_undo_1 3 rfl rfl)
theorem dX5_undo_30 : decode cX5_undo 30 = .ok (.aload_n 0, 1) := dk_42 (dk_at dksX5_undo_1 6 rfl rfl)
theorem dX5_undo_31 : decode cX5_undo 31 = .ok (.getfield 7, 3) := dk_180 0 7 (dk_at dksX5_undo_1 7 rfl rfl)
theorem dX5_undo_34 : decode cX5_undo 34 = .ok (.bipush 110, 2) := dk_16 110 (dk_at dksX5_undo_1 10 rfl rfl)
theorem dX5_undo_36 : decode cX5_undo 36 = .ok (.iload_n 1, 1) := dk_27 (dk_at dksX5_undo_1 12 rfl rfl)
theorem dX5_undo_37 : decode cX5_undo 37 = .ok (.iadd, 1) := dk_96 (dk_at dksX5_undo_1 13 rfl rfl)
theorem dX5_undo_38 : decode cX5_undo 38 = .ok (.aload_n 0, 1) := dk_42 (dk_at dksX5_undo_1 14 rfl rfl)
theorem dX5_undo_39 : decode cX5_undo 39 = .ok (.getfield 7, 3) := dk_180 0 7 (dk_at dksX5_undo_1 15 rfl rfl)
theorem dX5_undo_42 : decode cX5_undo 42 = .ok (.sipush 470, 3) := dk_17 1 214 (dk_at dksX5_undo_1 18 rfl rfl)
theorem dX5_undo_45 : decode cX5_undo 45 = .ok (.sipush 355, 3) := dk_17 1 99 (dk_at dksX5_undo_1 21 rfl rfl)
theorem dX5_undo_48 : decode cX5_undo 48 = .ok (.aload_n 0, 1) := dk_42 (dk_at dksX5_undo_2 0 rfl rfl)
theorem dX5_undo_49 : decode cX5_undo 49 = .ok (.getfield 7, 3) := dk_180 0 7 (dk_at dksX5_undo_2 1 rfl rfl)
theorem dX5_undo_52 : decode cX5_undo 52 = .ok (.iconst 3, 1) := dk_6 (dk_at dksX5_undo_2 4 rfl rfl)
theorem dX5_undo_53 : decode cX5_undo 53 = .ok (.iaload, 1) := dk_46 (dk_at dksX5_undo_2 5 rfl rfl)
theorem dX5_undo_54 : decode cX5_undo 54 = .ok (.imul, 1) := dk_104 (dk_at dksX5_undo_2 6 rfl rfl)
theorem dX5_undo_55 : decode cX5_undo 55 = .ok (.iadd, 1) := dk_96 (dk_at dksX5_undo_2 7 rfl rfl)
theorem dX5_undo_56 : decode cX5_undo 56 = .ok (.iload_n 1, 1) := dk_27 (dk_at dksX5_undo_2 8 rfl rfl)
theorem dX5_undo_57 : decode cX5_undo 57 = .ok (.iadd, 1) := dk_96 (dk_at dksX5_undo_2 9 rfl rfl)
theorem dX5_undo_58 : decode cX5_undo 58 = .ok (.iaload, 1) := dk_46 (dk_at dksX5_undo_2 10 rfl rfl)
theorem dX5_undo_59 : decode cX5_undo 59 = .ok (.iastore, 1) := dk_79 (dk_at dksX5_undo_2 11 rfl rfl)
theorem dX5_undo_60 : decode cX5_undo 60 = .ok (.iinc 1 1, 3) := dk_132 1 1 (dk_at dksX5_undo_2 12 rfl rfl)
theorem dX5_undo_63 : decode cX5_undo 63 = .ok (.goto (-40), 3) := dk_167 255 216 (dk_at dksX5_undo_2 15 rfl rfl)
theorem dX5_undo_66 : decode cX5_undo 66 = .ok (.aload_n 0, 1) := dk_42 (dk_at dksX5_undo_2 18 rfl rfl)
theorem dX5_undo_67 : decode cX5_undo 67 = .ok (.getfield 7, 3) := dk_180 0 7 (dk_at dksX5_undo_2 19 rfl rfl)
theorem dX5_undo_70 : decode cX5_undo 70 = .ok (.iconst 3, 1) := dk_6 (dk_at dksX5_undo_2 22 rfl rfl)
theorem dX5_undo_71 : decode cX5_undo 71 = .ok (.iaload, 1) := dk_46 (dk_at dksX5_undo_2 23 rfl rfl)
theorem dX5_undo_72 : decode cX5_undo 72 = .ok (.ireturn, 1) := dk_172 (dk_at dksX5_undo_3 0 rfl rfl)
abbrev cX5_feed : ByteArray := prog_23_method_12_code
def yX5_feed : MethodName := ⟨RX5, "feed", "(IIIII)I"⟩
def dkwX5_feed_2 : List UInt8 := [172]
abbrev dktX5_feed_2 : List UInt8 := dkwX5_feed_2 ++ []
def dkwX5_feed_1 : List UInt8 := [182, 0, 121, 42, 29, 182, 0, 121, 42, 21, 4, 182, 0, 121, 42, 21, 5, 182, 0, 121, 42, 180, 0, 118]
abbrev dktX5_feed_1 : List UInt8 := dkwX5_feed_1 ++ dktX5_feed_2
def dkwX5_feed_0 : List UInt8 := [42, 180, 0, 118, 16, 20, 96, 17, 1, 44, 164, 0, 5, 2, 172, 42, 27, 182, 0, 121, 42, 28]
abbrev dktX5_feed_0 : List UInt8 := dkwX5_feed_0 ++ dktX5_feed_1
theorem dksX5_feed_0 : cX5_feed.data.toList.drop 0 = dktX5_feed_0 := by decide +kernel
theorem dksX5_feed_1 : cX5_feed.data.toList.drop 22 = dktX5_feed_1 := dk_seg dksX5_feed_0 22 rfl rfl
theorem dksX5_feed_2 : cX5_feed.data.toList.drop 46 = dktX5_feed_2 := dk_seg dksX5_feed_1 24 rfl rfl
theorem dX5_feed_0 : decode cX5_feed 0 = .ok (.aload_n 0, 1) := dk_42 (dk_at dksX5_feed_0 0 rfl rfl)
theorem dX5_feed_1 : decode cX5_feed 1 = .ok (.getfield 118, 3) := dk_180 0 118 (dk_at dksX5_feed_0 1 rfl rfl)
theorem dX5_feed_4 : decode cX5_feed 4 = .ok (.bipush 20, 2) := dk_16 20 (dk_at dksX5_feed_0 4 rfl rfl)
theorem dX5_feed_6 : decode cX5_feed 6 = .ok (.iadd, 1) := dk_96 (dk_at dksX5_feed_0 6 rfl rfl)
theorem dX5_feed_7 : decode cX5_feed 7 = .ok (.sipush 300, 3) := dk_17 1 44 (dk_at dksX5_feed_0 7 rfl rfl)
theorem dX5_feed_10 : decode cX5_feed 10 = .ok (.if_icmp .le 5, 3) := dk_164 0 5 (dk_at dksX5_feed_0 10 rfl rfl)
theorem dX5_feed_13 : decode cX5_feed 13 = .ok (.iconst (-1), 1) := dk_2 (dk_at dksX5_feed_0 13 rfl rfl)
theorem dX5_feed_14 : decode cX5_feed 14 = .ok (.ireturn, 1) := dk_172 (dk_at dksX5_feed_0 14 rfl rfl)
theorem dX5_feed_15 : decode cX5_feed 15 = .ok (.aload_n 0, 1) := dk_42 (dk_at dksX5_feed_0 15 rfl rfl)
theorem dX5_feed_16 : decode cX5_feed 16 = .ok (.iload_n 1, 1) := dk_27 (dk_at dksX5_feed_0 16 rfl rfl)
theorem dX5_feed_17 : decode cX5_feed 17 = .ok (.invokevirtual 121, 3) := dk_182 0 121 (dk_at dksX5_feed_0 17 rfl rfl)
theorem dX5_feed_20 : decode cX5_feed 20 = .ok (.aload_n 0, 1) := dk_42 (dk_at dksX5_feed_0 20 rfl rfl)
theorem dX5_feed_21 : decode cX5_feed 21 = .ok (.iload_n 2, 1) := dk_28 (dk_at dksX5_feed_0 21 rfl rfl)
theorem dX5_feed_22 : decode cX5_feed 22 = .ok (.invokevirtual 121, 3) := dk_182 0 121 (dk_at dksX5_feed_1 0 rfl rfl)
theorem dX5_feed_25 : decode cX5_feed 25 = .ok (.aload_n 0, 1) := dk_42 (dk_at dksX5_feed_1 3 rfl rfl)
theorem dX5_feed_26 : decode cX5_feed 26 = .ok (.iload_n 3, 1) := dk_29 (dk_at dksX5_feed_1 4 rfl rfl)
theorem dX5_feed_27 : decode cX5_feed 27 = .ok (.invokevirtual 121, 3) := dk_182 0 121 (dk_at dksX5_feed_1 5 rfl rfl)
theorem dX5_feed_30 : decode cX5_feed 30 = .ok (.aload_n 0, 1) := dk_42 (dk_at dksX5_feed_1 8 rfl rfl)
theorem dX5_feed_31 : decode cX5_feed 31 = .ok (.iload 4, 2) := dk_21 4 (dk_at dksX5_feed_1 9 rfl rfl)
theorem dX5_feed_33 : decode cX5_feed 33 = .ok (.invokevirtual 121, 3) := dk_182 0 121 (dk_at dksX5_feed_1 11 rfl rfl)
theorem dX5_feed_36 : decode cX5_feed 36 = .ok (.aload_n 0, 1) := dk_42 (dk_at dksX5_feed_1 14 rfl rfl)
theorem dX5_feed_37 : decode cX5_feed 37 = .ok (.iload 5, 2) := dk_21 5 (dk_at dksX5_feed_1 15 rfl rfl)
theorem dX5_feed_39 : decode cX5_feed 39 = .ok (.invokevirtual 121, 3) := dk_182 0 121 (dk_at dksX5_feed_1 17 rfl rfl)
theorem dX5_feed_42 : decode cX5_feed 42 = .ok (.aload_n 0, 1) := dk_42 (dk_at dksX5_feed_1 20 rfl rfl)
theorem dX5_feed_43 : decode cX5_feed 43 = .ok (.getfield 118, 3) := dk_180 0 118 (dk_at dksX5_feed_1 21 rfl rfl)
theorem dX5_feed_46 : decode cX5_feed 46 = .ok (.ireturn, 1) := dk_172 (dk_at dksX5_feed_2 0 rfl rfl)
abbrev cX5_put : ByteArray := prog_23_method_11_code
def yX5_put : MethodName := ⟨RX5, "put", "(I)V"⟩
def dkwX5_put_1 : List UInt8 := [180, 0, 118, 4, 96, 181, 0, 118, 28, 16, 8, 100, 61, 167, 255, 224, 177]
abbrev dktX5_put_1 : List UInt8 := dkwX5_put_1 ++ []
def dkwX5_put_0 : List UInt8 := [16, 24, 61, 28, 155, 0, 34, 42, 180, 0, 16, 42, 180, 0, 118, 27, 28, 122, 145, 84, 42, 89]
abbrev dktX5_put_0 : List UInt8 := dkwX5_put_0 ++ dktX5_put_1
theorem dksX5_put_0 : cX5_put.data.toList.drop 0 = dktX5_put_0 := by decide +kernel
theorem dksX5_put_1 : cX5_put.data.toList.drop 22 = dktX5_put_1 := dk_seg dksX5_put_0 22 rfl rfl
theorem dX5_put_0 : decode cX5_put 0 = .ok (.bipush 24, 2) := dk_16 24 (dk_at dksX5_put_0 0 rfl rfl)
theorem dX5_put_2 : decode cX5_put 2 = .ok (.istore_n 2, 1) := dk_61 (dk_at dksX5_put_0 2 rfl rfl)
theorem dX5_put_3 : decode cX5_put 3 = .ok (.iload_n 2, 1) := dk_28 (dk_at dksX5_put_0 3 rfl rfl)
theorem dX5_put_4 : decode cX5_put 4 = .ok (.ifCond .lt 34, 3) := dk_155 0 34 (dk_at dksX5_put_0 4 rfl rfl)
theorem dX5_put_7 : decode cX5_put 7 = .ok (.aload_n 0, 1) := dk_42 (dk_at dksX5_put_0 7 rfl rfl)
theorem dX5_put_8 : decode cX5_put 8 = .ok (.getfield 16, 3) := dk_180 0 16 (dk_at dksX5_put_0 8 rfl rfl)
theorem dX5_put_11 : decode cX5_put 11 = .ok (.aload_n 0, 1) := dk_42 (dk_at dksX5_put_0 11 rfl rfl)
theorem dX5_put_12 : decode cX5_put 12 = .ok (.getfield 118, 3) := dk_180 0 118 (dk_at dksX5_put_0 12 rfl rfl)
theorem dX5_put_15 : decode cX5_put 15 = .ok (.iload_n 1, 1) := dk_27 (dk_at dksX5_put_0 15 rfl rfl)
theorem dX5_put_16 : decode cX5_put 16 = .ok (.iload_n 2, 1) := dk_28 (dk_at dksX5_put_0 16 rfl rfl)
theorem dX5_put_17 : decode cX5_put 17 = .ok (.ishr, 1) := dk_122 (dk_at dksX5_put_0 17 rfl rfl)
theorem dX5_put_18 : decode cX5_put 18 = .ok (.i2b, 1) := dk_145 (dk_at dksX5_put_0 18 rfl rfl)
theorem dX5_put_19 : decode cX5_put 19 = .ok (.bastore, 1) := dk_84 (dk_at dksX5_put_0 19 rfl rfl)
theorem dX5_put_20 : decode cX5_put 20 = .ok (.aload_n 0, 1) := dk_42 (dk_at dksX5_put_0 20 rfl rfl)
theorem dX5_put_21 : decode cX5_put 21 = .ok (.dup, 1) := dk_89 (dk_at dksX5_put_0 21 rfl rfl)
theorem dX5_put_22 : decode cX5_put 22 = .ok (.getfield 118, 3) := dk_180 0 118 (dk_at dksX5_put_1 0 rfl rfl)
theorem dX5_put_25 : decode cX5_put 25 = .ok (.iconst 1, 1) := dk_4 (dk_at dksX5_put_1 3 rfl rfl)
theorem dX5_put_26 : decode cX5_put 26 = .ok (.iadd, 1) := dk_96 (dk_at dksX5_put_1 4 rfl rfl)
theorem dX5_put_27 : decode cX5_put 27 = .ok (.putfield 118, 3) := dk_181 0 118 (dk_at dksX5_put_1 5 rfl rfl)
theorem dX5_put_30 : decode cX5_put 30 = .ok (.iload_n 2, 1) := dk_28 (dk_at dksX5_put_1 8 rfl rfl)
theorem dX5_put_31 : decode cX5_put 31 = .ok (.bipush 8, 2) := dk_16 8 (dk_at dksX5_put_1 9 rfl rfl)
theorem dX5_put_33 : decode cX5_put 33 = .ok (.isub, 1) := dk_100 (dk_at dksX5_put_1 11 rfl rfl)
theorem dX5_put_34 : decode cX5_put 34 = .ok (.istore_n 2, 1) := dk_61 (dk_at dksX5_put_1 12 rfl rfl)
theorem dX5_put_35 : decode cX5_put 35 = .ok (.goto (-32), 3) := dk_167 255 224 (dk_at dksX5_put_1 13 rfl rfl)
theorem dX5_put_38 : decode cX5_put 38 = .ok (.return_, 1) := dk_177 (dk_at dksX5_put_1 16 rfl rfl)
abbrev cX5_end : ByteArray := prog_23_method_13_code
def yX5_end : MethodName := ⟨RX5, "end", "(I)I"⟩
def dkwX5_end_0 : List UInt8 := [27, 3, 42, 180, 0, 118, 184, 0, 110, 154, 0, 5, 2, 172, 42, 27, 181, 0, 118, 27, 172]
abbrev dktX5_end_0 : List UInt8 := dkwX5_end_0 ++ []
theorem dksX5_end_0 : cX5_end.data.toList.drop 0 = dktX5_end_0 := by decide +kernel
theorem dX5_end_0 : decode cX5_end 0 = .ok (.iload_n 1, 1) := dk_27 (dk_at dksX5_end_0 0 rfl rfl)
theorem dX5_end_1 : decode cX5_end 1 = .ok (.iconst 0, 1) := dk_3 (dk_at dksX5_end_0 1 rfl rfl)
theorem dX5_end_2 : decode cX5_end 2 = .ok (.aload_n 0, 1) := dk_42 (dk_at dksX5_end_0 2 rfl rfl)
theorem dX5_end_3 : decode cX5_end 3 = .ok (.getfield 118, 3) := dk_180 0 118 (dk_at dksX5_end_0 3 rfl rfl)
theorem dX5_end_6 : decode cX5_end 6 = .ok (.invokestatic 110, 3) := dk_184 0 110 (dk_at dksX5_end_0 6 rfl rfl)
theorem dX5_end_9 : decode cX5_end 9 = .ok (.ifCond .ne 5, 3) := dk_154 0 5 (dk_at dksX5_end_0 9 rfl rfl)
theorem dX5_end_12 : decode cX5_end 12 = .ok (.iconst (-1), 1) := dk_2 (dk_at dksX5_end_0 12 rfl rfl)
theorem dX5_end_13 : decode cX5_end 13 = .ok (.ireturn, 1) := dk_172 (dk_at dksX5_end_0 13 rfl rfl)
theorem dX5_end_14 : decode cX5_end 14 = .ok (.aload_n 0, 1) := dk_42 (dk_at dksX5_end_0 14 rfl rfl)
theorem dX5_end_15 : decode cX5_end 15 = .ok (.iload_n 1, 1) := dk_27 (dk_at dksX5_end_0 15 rfl rfl)
theorem dX5_end_16 : decode cX5_end 16 = .ok (.putfield 118, 3) := dk_181 0 118 (dk_at dksX5_end_0 16 rfl rfl)
theorem dX5_end_19 : decode cX5_end 19 = .ok (.iload_n 1, 1) := dk_27 (dk_at dksX5_end_0 19 rfl rfl)
theorem dX5_end_20 : decode cX5_end 20 = .ok (.ireturn, 1) := dk_172 (dk_at dksX5_end_0 20 rfl rfl)
abbrev cX5_text : ByteArray := prog_23_method_40_code
def yX5_text : MethodName := ⟨RX5, "text", "()I"⟩
def dkwX5_text_15 : List UInt8 := [180, 0, 75, 28, 46, 79, 132, 2, 1, 167, 255, 209, 42, 180, 0, 7, 4, 92, 46, 4, 96, 79, 27, 172]
abbrev dktX5_text_15 : List UInt8 := dkwX5_text_15 ++ []
def dkwX5_text_14 : List UInt8 := [104, 28, 96, 42, 180, 0, 72, 28, 46, 79, 42, 180, 0, 45, 17, 1, 144, 27, 104, 28, 96, 42]
abbrev dktX5_text_14 : List UInt8 := dkwX5_text_14 ++ dktX5_text_15
def dkwX5_text_13 : List UInt8 := [132, 2, 1, 167, 255, 171, 3, 61, 28, 42, 180, 0, 204, 162, 0, 45, 42, 180, 0, 42, 17, 1, 144, 27]
abbrev dktX5_text_13 : List UInt8 := dkwX5_text_13 ++ dktX5_text_14
def dkwX5_text_12 : List UInt8 := [180, 0, 66, 28, 46, 79, 42, 180, 0, 39, 16, 24, 27, 104, 28, 96, 42, 180, 0, 69, 28, 46, 79]
abbrev dktX5_text_12 : List UInt8 := dkwX5_text_12 ++ dktX5_text_13
def dkwX5_text_11 : List UInt8 := [17, 1, 144, 27, 104, 42, 180, 0, 63, 28, 46, 96, 79, 42, 180, 0, 36, 16, 24, 27, 104, 28, 96, 42]
abbrev dktX5_text_11 : List UInt8 := dkwX5_text_11 ++ dktX5_text_12
def dkwX5_text_10 : List UInt8 := [16, 24, 27, 104, 28, 96, 42, 180, 0, 60, 28, 46, 79, 42, 180, 0, 33, 16, 24, 27, 104, 28, 96]
abbrev dktX5_text_10 : List UInt8 := dkwX5_text_10 ++ dktX5_text_11
def dkwX5_text_9 : List UInt8 := [180, 0, 27, 27, 42, 180, 1, 18, 79, 3, 61, 28, 42, 180, 1, 18, 162, 0, 83, 42, 180, 0, 30]
abbrev dktX5_text_9 : List UInt8 := dkwX5_text_9 ++ dktX5_text_10
def dkwX5_text_8 : List UInt8 := [180, 0, 201, 181, 0, 24, 42, 180, 0, 198, 158, 0, 5, 2, 172, 42, 180, 0, 7, 4, 46, 60, 42]
abbrev dktX5_text_8 : List UInt8 := dkwX5_text_8 ++ dktX5_text_9
def dkwX5_text_7 : List UInt8 := [182, 1, 40, 167, 255, 173, 42, 182, 1, 43, 167, 255, 166, 42, 42, 180, 0, 198, 181, 0, 20, 42, 42]
abbrev dktX5_text_7 : List UInt8 := dkwX5_text_7 ++ dktX5_text_8
def dkwX5_text_6 : List UInt8 := [42, 182, 1, 31, 167, 255, 194, 42, 182, 1, 34, 167, 255, 187, 42, 182, 1, 37, 167, 255, 180, 42]
abbrev dktX5_text_6 : List UInt8 := dkwX5_text_6 ++ dktX5_text_7
def dkwX5_text_5 : List UInt8 := [170, 0, 0, 0, 0, 0, 0, 60, 0, 0, 0, 0, 0, 0, 0, 3, 0, 0, 0, 32, 0, 0, 0, 39, 0, 0, 0, 46, 0, 0, 0, 53]
abbrev dktX5_text_5 : List UInt8 := dkwX5_text_5 ++ dktX5_text_6
def dkwX5_text_4 : List UInt8 := [153, 0, 74, 42, 180, 0, 242]
abbrev dktX5_text_4 : List UInt8 := dkwX5_text_4 ++ dktX5_text_5
def dkwX5_text_3 : List UInt8 := [42, 182, 0, 219, 42, 180, 0, 198, 154, 0, 89, 42, 180, 0, 242, 7, 160, 0, 10, 42, 180, 0, 182]
abbrev dktX5_text_3 : List UInt8 := dkwX5_text_3 ++ dktX5_text_4
def dkwX5_text_2 : List UInt8 := [3, 181, 0, 207, 42, 3, 181, 0, 222, 42, 7, 181, 0, 242, 42, 3, 181, 1, 18, 42, 3, 181, 0, 204]
abbrev dktX5_text_2 : List UInt8 := dkwX5_text_2 ++ dktX5_text_3
def dkwX5_text_1 : List UInt8 := [181, 0, 118, 42, 3, 181, 0, 173, 42, 3, 181, 0, 198, 42, 2, 181, 0, 201, 42, 3, 181, 0, 210, 42]
abbrev dktX5_text_1 : List UInt8 := dkwX5_text_1 ++ dktX5_text_2
def dkwX5_text_0 : List UInt8 := [42, 180, 0, 7, 4, 46, 7, 160, 0, 5, 2, 172, 42, 42, 180, 0, 118, 181, 0, 176, 42, 3]
abbrev dktX5_text_0 : List UInt8 := dkwX5_text_0 ++ dktX5_text_1
theorem dksX5_text_0 : cX5_text.data.toList.drop 0 = dktX5_text_0 := by decide +kernel
theorem dksX5_text_1 : cX5_text.data.toList.drop 22 = dktX5_text_1 := dk_seg dksX5_text_0 22 rfl rfl
theorem dksX5_text_2 : cX5_text.data.toList.drop 46 = dktX5_text_2 := dk_seg dksX5_text_1 24 rfl rfl
theorem dksX5_text_3 : cX5_text.data.toList.drop 70 = dktX5_text_3 := dk_seg dksX5_text_2 24 rfl rfl
theorem dksX5_text_4 : cX5_text.data.toList.drop 93 = dktX5_text_4 := dk_seg dksX5_text_3 23 rfl rfl
theorem dksX5_text_5 : cX5_text.data.toList.drop 100 = dktX5_text_5 := dk_seg dksX5_text_4 7 rfl rfl
theorem dksX5_text_6 : cX5_text.data.toList.drop 132 = dktX5_text_6 := dk_seg dksX5_text_5 32 rfl rfl
theorem dksX5_text_7 : cX5_text.data.toList.drop 154 = dktX5_text_7 := dk_seg dksX5_text_6 22 rfl rfl
theorem dksX5_text_8 : cX5_text.data.toList.drop 177 = dktX5_text_8 := dk_seg dksX5_text_7 23 rfl rfl
theorem dksX5_text_9 : cX5_text.data.toList.drop 200 = dktX5_text_9 := dk_seg dksX5_text_8 23 rfl rfl
theorem dksX5_text_10 : cX5_text.data.toList.drop 223 = dktX5_text_10 := dk_seg dksX5_text_9 23 rfl rfl
theorem dksX5_text_11 : cX5_text.data.toList.drop 246 = dktX5_text_11 := dk_seg dksX5_text_10 23 rfl rfl
theorem dksX5_text_12 : cX5_text.data.toList.drop 270 = dktX5_text_12 := dk_seg dksX5_text_11 24 rfl rfl
theorem dksX5_text_13 : cX5_text.data.toList.drop 293 = dktX5_text_13 := dk_seg dksX5_text_12 23 rfl rfl
theorem dksX5_text_14 : cX5_text.data.toList.drop 317 = dktX5_text_14 := dk_seg dksX5_text_13 24 rfl rfl
theorem dksX5_text_15 : cX5_text.data.toList.drop 339 = dktX5_text_15 := dk_seg dksX5_text_14 22 rfl rfl
theorem dX5_text_0 : decode cX5_text 0 = .ok (.aload_n 0, 1) := dk_42 (dk_at dksX5_text_0 0 rfl rfl)
theorem dX5_text_1 : decode cX5_text 1 = .ok (.getfield 7, 3) := dk_180 0 7 (dk_at dksX5_text_0 1 rfl rfl)
theorem dX5_text_4 : decode cX5_text 4 = .ok (.iconst 1, 1) := dk_4 (dk_at dksX5_text_0 4 rfl rfl)
theorem dX5_text_5 : decode cX5_text 5 = .ok (.iaload, 1) := dk_46 (dk_at dksX5_text_0 5 rfl rfl)
theorem dX5_text_6 : decode cX5_text 6 = .ok (.iconst 4, 1) := dk_7 (dk_at dksX5_text_0 6 rfl rfl)
theorem dX5_text_7 : decode cX5_text 7 = .ok (.if_icmp .ne 5, 3) := dk_160 0 5 (dk_at dksX5_text_0 7 rfl rfl)
theorem dX5_text_10 : decode cX5_text 10 = .ok (.iconst (-1), 1) := dk_2 (dk_at dksX5_text_0 10 rfl rfl)
theorem dX5_text_11 : decode cX5_text 11 = .ok (.ireturn, 1) := dk_172 (dk_at dksX5_text_0 11 rfl rfl)
theorem dX5_text_12 : decode cX5_text 12 = .ok (.aload_n 0, 1) := dk_42 (dk_at dksX5_text_0 12 rfl rfl)
theorem dX5_text_13 : decode cX5_text 13 = .ok (.aload_n 0, 1) := dk_42 (dk_at dksX5_text_0 13 rfl rfl)
theorem dX5_text_14 : decode cX5_text 14 = .ok (.getfield 118, 3) := dk_180 0 118 (dk_at dksX5_text_0 14 rfl rfl)
theorem dX5_text_17 : decode cX5_text 17 = .ok (.putfield 176, 3) := dk_181 0 176 (dk_at dksX5_text_0 17 rfl rfl)
theorem dX5_text_20 : decode cX5_text 20 = .ok (.aload_n 0, 1) := dk_42 (dk_at dksX5_text_0 20 rfl rfl)
theorem dX5_text_21 : decode cX5_text 21 = .ok (.iconst 0, 1) := dk_3 (dk_at dksX5_text_0 21 rfl rfl)
theorem dX5_text_22 : decode cX5_text 22 = .ok (.putfield 118, 3) := dk_181 0 118 (dk_at dksX5_text_1 0 rfl rfl)
theorem dX5_text_25 : decode cX5_text 25 = .ok (.aload_n 0, 1) := dk_42 (dk_at dksX5_text_1 3 rfl rfl)
theorem dX5_text_26 : decode cX5_text 26 = .ok (.iconst 0, 1) := dk_3 (dk_at dksX5_text_1 4 rfl rfl)
theorem dX5_text_27 : decode cX5_text 27 = .ok (.putfield 173, 3) := dk_181 0 173 (dk_at dksX5_text_1 5 rfl rfl)
theorem dX5_text_30 : decode cX5_text 30 = .ok (.aload_n 0, 1) := dk_42 (dk_at dksX5_text_1 8 rfl rfl)
theorem dX5_text_31 : decode cX5_text 31 = .ok (.iconst 0, 1) := dk_3 (dk_at dksX5_text_1 9 rfl rfl)
theorem dX5_text_32 : decode cX5_text 32 = .ok (.putfield 198, 3) := dk_181 0 198 (dk_at dksX5_text_1 10 rfl rfl)
theorem dX5_text_35 : decode cX5_text 35 = .ok (.aload_n 0, 1) := dk_42 (dk_at dksX5_text_1 13 rfl rfl)
theorem dX5_text_36 : decode cX5_text 36 = .ok (.iconst (-1), 1) := dk_2 (dk_at dksX5_text_1 14 rfl rfl)
theorem dX5_text_37 : decode cX5_text 37 = .ok (.putfield 201, 3) := dk_181 0 201 (dk_at dksX5_text_1 15 rfl rfl)
theorem dX5_text_40 : decode cX5_text 40 = .ok (.aload_n 0, 1) := dk_42 (dk_at dksX5_text_1 18 rfl rfl)
theorem dX5_text_41 : decode cX5_text 41 = .ok (.iconst 0, 1) := dk_3 (dk_at dksX5_text_1 19 rfl rfl)
theorem dX5_text_42 : decode cX5_text 42 = .ok (.putfield 210, 3) := dk_181 0 210 (dk_at dksX5_text_1 20 rfl rfl)
theorem dX5_text_45 : decode cX5_text 45 = .ok (.aload_n 0, 1) := dk_42 (dk_at dksX5_text_1 23 rfl rfl)
theorem dX5_text_46 : decode cX5_text 46 = .ok (.iconst 0, 1) := dk_3 (dk_at dksX5_text_2 0 rfl rfl)
theorem dX5_text_47 : decode cX5_text 47 = .ok (.putfield 207, 3) := dk_181 0 207 (dk_at dksX5_text_2 1 rfl rfl)
theorem dX5_text_50 : decode cX5_text 50 = .ok (.aload_n 0, 1) := dk_42 (dk_at dksX5_text_2 4 rfl rfl)
theorem dX5_text_51 : decode cX5_text 51 = .ok (.iconst 0, 1) := dk_3 (dk_at dksX5_text_2 5 rfl rfl)
theorem dX5_text_52 : decode cX5_text 52 = .ok (.putfield 222, 3) := dk_181 0 222 (dk_at dksX5_text_2 6 rfl rfl)
theorem dX5_text_55 : decode cX5_text 55 = .ok (.aload_n 0, 1) := dk_42 (dk_at dksX5_text_2 9 rfl rfl)
theorem dX5_text_56 : decode cX5_text 56 = .ok (.iconst 4, 1) := dk_7 (dk_at dksX5_text_2 10 rfl rfl)
theorem dX5_text_57 : decode cX5_text 57 = .ok (.putfield 242, 3) := dk_181 0 242 (dk_at dksX5_text_2 11 rfl rfl)
theorem dX5_text_60 : decode cX5_text 60 = .ok (.aload_n 0, 1) := dk_42 (dk_at dksX5_text_2 14 rfl rfl)
theorem dX5_text_61 : decode cX5_text 61 = .ok (.iconst 0, 1) := dk_3 (dk_at dksX5_text_2 15 rfl rfl)
theorem dX5_text_62 : decode cX5_text 62 = .ok (.putfield 274, 3) := dk_181 1 18 (dk_at dksX5_text_2 16 rfl rfl)
theorem dX5_text_65 : decode cX5_text 65 = .ok (.aload_n 0, 1) := dk_42 (dk_at dksX5_text_2 19 rfl rfl)
theorem dX5_text_66 : decode cX5_text 66 = .ok (.iconst 0, 1) := dk_3 (dk_at dksX5_text_2 20 rfl rfl)
theorem dX5_text_67 : decode cX5_text 67 = .ok (.putfield 204, 3) := dk_181 0 204 (dk_at dksX5_text_2 21 rfl rfl)
theorem dX5_text_70 : decode cX5_text 70 = .ok (.aload_n 0, 1) := dk_42 (dk_at dksX5_text_3 0 rfl rfl)
theorem dX5_text_71 : decode cX5_text 71 = .ok (.invokevirtual 219, 3) := dk_182 0 219 (dk_at dksX5_text_3 1 rfl rfl)
theorem dX5_text_74 : decode cX5_text 74 = .ok (.aload_n 0, 1) := dk_42 (dk_at dksX5_text_3 4 rfl rfl)
theorem dX5_text_75 : decode cX5_text 75 = .ok (.getfield 198, 3) := dk_180 0 198 (dk_at dksX5_text_3 5 rfl rfl)
theorem dX5_text_78 : decode cX5_text 78 = .ok (.ifCond .ne 89, 3) := dk_154 0 89 (dk_at dksX5_text_3 8 rfl rfl)
theorem dX5_text_81 : decode cX5_text 81 = .ok (.aload_n 0, 1) := dk_42 (dk_at dksX5_text_3 11 rfl rfl)
theorem dX5_text_82 : decode cX5_text 82 = .ok (.getfield 242, 3) := dk_180 0 242 (dk_at dksX5_text_3 12 rfl rfl)
theorem dX5_text_85 : decode cX5_text 85 = .ok (.iconst 4, 1) := dk_7 (dk_at dksX5_text_3 15 rfl rfl)
theorem dX5_text_86 : decode cX5_text 86 = .ok (.if_icmp .ne 10, 3) := dk_160 0 10 (dk_at dksX5_text_3 16 rfl rfl)
theorem dX5_text_89 : decode cX5_text 89 = .ok (.aload_n 0, 1) := dk_42 (dk_at dksX5_text_3 19 rfl rfl)
theorem dX5_text_90 : decode cX5_text 90 = .ok (.getfield 182, 3) := dk_180 0 182 (dk_at dksX5_text_3 20 rfl rfl)
theorem dX5_text_93 : decode cX5_text 93 = .ok (.ifCond .eq 74, 3) := dk_153 0 74 (dk_at dksX5_text_4 0 rfl rfl)
theorem dX5_text_96 : decode cX5_text 96 = .ok (.aload_n 0, 1) := dk_42 (dk_at dksX5_text_4 3 rfl rfl)
theorem dX5_text_97 : decode cX5_text 97 = .ok (.getfield 242, 3) := dk_180 0 242 (dk_at dksX5_text_4 4 rfl rfl)
theorem dX5_text_100 : decode cX5_text 100 = .ok (.tableswitch 60 0 3 #[32, 39, 46, 53], 32) := by decide +kernel
theorem dX5_text_132 : decode cX5_text 132 = .ok (.aload_n 0, 1) := dk_42 (dk_at dksX5_text_6 0 rfl rfl)
theorem dX5_text_133 : decode cX5_text 133 = .ok (.invokevirtual 287, 3) := dk_182 1 31 (dk_at dksX5_text_6 1 rfl rfl)
theorem dX5_text_136 : decode cX5_text 136 = .ok (.goto (-62), 3) := dk_167 255 194 (dk_at dksX5_text_6 4 rfl rfl)
theorem dX5_text_139 : decode cX5_text 139 = .ok (.aload_n 0, 1) := dk_42 (dk_at dksX5_text_6 7 rfl rfl)
theorem dX5_text_140 : decode cX5_text 140 = .ok (.invokevirtual 290, 3) := dk_182 1 34 (dk_at dksX5_text_6 8 rfl rfl)
theorem dX5_text_143 : decode cX5_text 143 = .ok (.goto (-69), 3) := dk_167 255 187 (dk_at dksX5_text_6 11 rfl rfl)
theorem dX5_text_146 : decode cX5_text 146 = .ok (.aload_n 0, 1) := dk_42 (dk_at dksX5_text_6 14 rfl rfl)
theorem dX5_text_147 : decode cX5_text 147 = .ok (.invokevirtual 293, 3) := dk_182 1 37 (dk_at dksX5_text_6 15 rfl rfl)
theorem dX5_text_150 : decode cX5_text 150 = .ok (.goto (-76), 3) := dk_167 255 180 (dk_at dksX5_text_6 18 rfl rfl)
theorem dX5_text_153 : decode cX5_text 153 = .ok (.aload_n 0, 1) := dk_42 (dk_at dksX5_text_6 21 rfl rfl)
theorem dX5_text_154 : decode cX5_text 154 = .ok (.invokevirtual 296, 3) := dk_182 1 40 (dk_at dksX5_text_7 0 rfl rfl)
theorem dX5_text_157 : decode cX5_text 157 = .ok (.goto (-83), 3) := dk_167 255 173 (dk_at dksX5_text_7 3 rfl rfl)
theorem dX5_text_160 : decode cX5_text 160 = .ok (.aload_n 0, 1) := dk_42 (dk_at dksX5_text_7 6 rfl rfl)
theorem dX5_text_161 : decode cX5_text 161 = .ok (.invokevirtual 299, 3) := dk_182 1 43 (dk_at dksX5_text_7 7 rfl rfl)
theorem dX5_text_164 : decode cX5_text 164 = .ok (.goto (-90), 3) := dk_167 255 166 (dk_at dksX5_text_7 10 rfl rfl)
theorem dX5_text_167 : decode cX5_text 167 = .ok (.aload_n 0, 1) := dk_42 (dk_at dksX5_text_7 13 rfl rfl)
theorem dX5_text_168 : decode cX5_text 168 = .ok (.aload_n 0, 1) := dk_42 (dk_at dksX5_text_7 14 rfl rfl)
theorem dX5_text_169 : decode cX5_text 169 = .ok (.getfield 198, 3) := dk_180 0 198 (dk_at dksX5_text_7 15 rfl rfl)
theorem dX5_text_172 : decode cX5_text 172 = .ok (.putfield 20, 3) := dk_181 0 20 (dk_at dksX5_text_7 18 rfl rfl)
theorem dX5_text_175 : decode cX5_text 175 = .ok (.aload_n 0, 1) := dk_42 (dk_at dksX5_text_7 21 rfl rfl)
theorem dX5_text_176 : decode cX5_text 176 = .ok (.aload_n 0, 1) := dk_42 (dk_at dksX5_text_7 22 rfl rfl)
theorem dX5_text_177 : decode cX5_text 177 = .ok (.getfield 201, 3) := dk_180 0 201 (dk_at dksX5_text_8 0 rfl rfl)
theorem dX5_text_180 : decode cX5_text 180 = .ok (.putfield 24, 3) := dk_181 0 24 (dk_at dksX5_text_8 3 rfl rfl)
theorem dX5_text_183 : decode cX5_text 183 = .ok (.aload_n 0, 1) := dk_42 (dk_at dksX5_text_8 6 rfl rfl)
theorem dX5_text_184 : decode cX5_text 184 = .ok (.getfield 198, 3) := dk_180 0 198 (dk_at dksX5_text_8 7 rfl rfl)
theorem dX5_text_187 : decode cX5_text 187 = .ok (.ifCond .le 5, 3) := dk_158 0 5 (dk_at dksX5_text_8 10 rfl rfl)
theorem dX5_text_190 : decode cX5_text 190 = .ok (.iconst (-1), 1) := dk_2 (dk_at dksX5_text_8 13 rfl rfl)
theorem dX5_text_191 : decode cX5_text 191 = .ok (.ireturn, 1) := dk_172 (dk_at dksX5_text_8 14 rfl rfl)
theorem dX5_text_192 : decode cX5_text 192 = .ok (.aload_n 0, 1) := dk_42 (dk_at dksX5_text_8 15 rfl rfl)
theorem dX5_text_193 : decode cX5_text 193 = .ok (.getfield 7, 3) := dk_180 0 7 (dk_at dksX5_text_8 16 rfl rfl)
theorem dX5_text_196 : decode cX5_text 196 = .ok (.iconst 1, 1) := dk_4 (dk_at dksX5_text_8 19 rfl rfl)
theorem dX5_text_197 : decode cX5_text 197 = .ok (.iaload, 1) := dk_46 (dk_at dksX5_text_8 20 rfl rfl)
theorem dX5_text_198 : decode cX5_text 198 = .ok (.istore_n 1, 1) := dk_60 (dk_at dksX5_text_8 21 rfl rfl)
theorem dX5_text_199 : decode cX5_text 199 = .ok (.aload_n 0, 1) := dk_42 (dk_at dksX5_text_8 22 rfl rfl)
theorem dX5_text_200 : decode cX5_text 200 = .ok (.getfield 27, 3) := dk_180 0 27 (dk_at dksX5_text_9 0 rfl rfl)
theorem dX5_text_203 : decode cX5_text 203 = .ok (.iload_n 1, 1) := dk_27 (dk_at dksX5_text_9 3 rfl rfl)
theorem dX5_text_204 : decode cX5_text 204 = .ok (.aload_n 0, 1) := dk_42 (dk_at dksX5_text_9 4 rfl rfl)
theorem dX5_text_205 : decode cX5_text 205 = .ok (.getfield 274, 3) := dk_180 1 18 (dk_at dksX5_text_9 5 rfl rfl)
theorem dX5_text_208 : decode cX5_text 208 = .ok (.iastore, 1) := dk_79 (dk_at dksX5_text_9 8 rfl rfl)
theorem dX5_text_209 : decode cX5_text 209 = .ok (.iconst 0, 1) := dk_3 (dk_at dksX5_text_9 9 rfl rfl)
theorem dX5_text_210 : decode cX5_text 210 = .ok (.istore_n 2, 1) := dk_61 (dk_at dksX5_text_9 10 rfl rfl)
theorem dX5_text_211 : decode cX5_text 211 = .ok (.iload_n 2, 1) := dk_28 (dk_at dksX5_text_9 11 rfl rfl)
theorem dX5_text_212 : decode cX5_text 212 = .ok (.aload_n 0, 1) := dk_42 (dk_at dksX5_text_9 12 rfl rfl)
theorem dX5_text_213 : decode cX5_text 213 = .ok (.getfield 274, 3) := dk_180 1 18 (dk_at dksX5_text_9 13 rfl rfl)
theorem dX5_text_216 : decode cX5_text 216 = .ok (.if_icmp .ge 83, 3) := dk_162 0 83 (dk_at dksX5_text_9 16 rfl rfl)
theorem dX5_text_219 : decode cX5_text 219 = .ok (.aload_n 0, 1) := dk_42 (dk_at dksX5_text_9 19 rfl rfl)
theorem dX5_text_220 : decode cX5_text 220 = .ok (.getfield 30, 3) := dk_180 0 30 (dk_at dksX5_text_9 20 rfl rfl)
theorem dX5_text_223 : decode cX5_text 223 = .ok (.bipush 24, 2) := dk_16 24 (dk_at dksX5_text_10 0 rfl rfl)
theorem dX5_text_225 : decode cX5_text 225 = .ok (.iload_n 1, 1) := dk_27 (dk_at dksX5_text_10 2 rfl rfl)
theorem dX5_text_226 : decode cX5_text 226 = .ok (.imul, 1) := dk_104 (dk_at dksX5_text_10 3 rfl rfl)
theorem dX5_text_227 : decode cX5_text 227 = .ok (.iload_n 2, 1) := dk_28 (dk_at dksX5_text_10 4 rfl rfl)
theorem dX5_text_228 : decode cX5_text 228 = .ok (.iadd, 1) := dk_96 (dk_at dksX5_text_10 5 rfl rfl)
theorem dX5_text_229 : decode cX5_text 229 = .ok (.aload_n 0, 1) := dk_42 (dk_at dksX5_text_10 6 rfl rfl)
theorem dX5_text_230 : decode cX5_text 230 = .ok (.getfield 60, 3) := dk_180 0 60 (dk_at dksX5_text_10 7 rfl rfl)
theorem dX5_text_233 : decode cX5_text 233 = .ok (.iload_n 2, 1) := dk_28 (dk_at dksX5_text_10 10 rfl rfl)
theorem dX5_text_234 : decode cX5_text 234 = .ok (.iaload, 1) := dk_46 (dk_at dksX5_text_10 11 rfl rfl)
theorem dX5_text_235 : decode cX5_text 235 = .ok (.iastore, 1) := dk_79 (dk_at dksX5_text_10 12 rfl rfl)
theorem dX5_text_236 : decode cX5_text 236 = .ok (.aload_n 0, 1) := dk_42 (dk_at dksX5_text_10 13 rfl rfl)
theorem dX5_text_237 : decode cX5_text 237 = .ok (.getfield 33, 3) := dk_180 0 33 (dk_at dksX5_text_10 14 rfl rfl)
theorem dX5_text_240 : decode cX5_text 240 = .ok (.bipush 24, 2) := dk_16 24 (dk_at dksX5_text_10 17 rfl rfl)
theorem dX5_text_242 : decode cX5_text 242 = .ok (.iload_n 1, 1) := dk_27 (dk_at dksX5_text_10 19 rfl rfl)
theorem dX5_text_243 : decode cX5_text 243 = .ok (.imul, 1) := dk_104 (dk_at dksX5_text_10 20 rfl rfl)
theorem dX5_text_244 : decode cX5_text 244 = .ok (.iload_n 2, 1) := dk_28 (dk_at dksX5_text_10 21 rfl rfl)
theorem dX5_text_245 : decode cX5_text 245 = .ok (.iadd, 1) := dk_96 (dk_at dksX5_text_10 22 rfl rfl)
theorem dX5_text_246 : decode cX5_text 246 = .ok (.sipush 400, 3) := dk_17 1 144 (dk_at dksX5_text_11 0 rfl rfl)
theorem dX5_text_249 : decode cX5_text 249 = .ok (.iload_n 1, 1) := dk_27 (dk_at dksX5_text_11 3 rfl rfl)
theorem dX5_text_250 : decode cX5_text 250 = .ok (.imul, 1) := dk_104 (dk_at dksX5_text_11 4 rfl rfl)
theorem dX5_text_251 : decode cX5_text 251 = .ok (.aload_n 0, 1) := dk_42 (dk_at dksX5_text_11 5 rfl rfl)
theorem dX5_text_252 : decode cX5_text 252 = .ok (.getfield 63, 3) := dk_180 0 63 (dk_at dksX5_text_11 6 rfl rfl)
theorem dX5_text_255 : decode cX5_text 255 = .ok (.iload_n 2, 1) := dk_28 (dk_at dksX5_text_11 9 rfl rfl)
theorem dX5_text_256 : decode cX5_text 256 = .ok (.iaload, 1) := dk_46 (dk_at dksX5_text_11 10 rfl rfl)
theorem dX5_text_257 : decode cX5_text 257 = .ok (.iadd, 1) := dk_96 (dk_at dksX5_text_11 11 rfl rfl)
theorem dX5_text_258 : decode cX5_text 258 = .ok (.iastore, 1) := dk_79 (dk_at dksX5_text_11 12 rfl rfl)
theorem dX5_text_259 : decode cX5_text 259 = .ok (.aload_n 0, 1) := dk_42 (dk_at dksX5_text_11 13 rfl rfl)
theorem dX5_text_260 : decode cX5_text 260 = .ok (.getfield 36, 3) := dk_180 0 36 (dk_at dksX5_text_11 14 rfl rfl)
theorem dX5_text_263 : decode cX5_text 263 = .ok (.bipush 24, 2) := dk_16 24 (dk_at dksX5_text_11 17 rfl rfl)
theorem dX5_text_265 : decode cX5_text 265 = .ok (.iload_n 1, 1) := dk_27 (dk_at dksX5_text_11 19 rfl rfl)
theorem dX5_text_266 : decode cX5_text 266 = .ok (.imul, 1) := dk_104 (dk_at dksX5_text_11 20 rfl rfl)
theorem dX5_text_267 : decode cX5_text 267 = .ok (.iload_n 2, 1) := dk_28 (dk_at dksX5_text_11 21 rfl rfl)
theorem dX5_text_268 : decode cX5_text 268 = .ok (.iadd, 1) := dk_96 (dk_at dksX5_text_11 22 rfl rfl)
theorem dX5_text_269 : decode cX5_text 269 = .ok (.aload_n 0, 1) := dk_42 (dk_at dksX5_text_11 23 rfl rfl)
theorem dX5_text_270 : decode cX5_text 270 = .ok (.getfield 66, 3) := dk_180 0 66 (dk_at dksX5_text_12 0 rfl rfl)
theorem dX5_text_273 : decode cX5_text 273 = .ok (.iload_n 2, 1) := dk_28 (dk_at dksX5_text_12 3 rfl rfl)
theorem dX5_text_274 : decode cX5_text 274 = .ok (.iaload, 1) := dk_46 (dk_at dksX5_text_12 4 rfl rfl)
theorem dX5_text_275 : decode cX5_text 275 = .ok (.iastore, 1) := dk_79 (dk_at dksX5_text_12 5 rfl rfl)
theorem dX5_text_276 : decode cX5_text 276 = .ok (.aload_n 0, 1) := dk_42 (dk_at dksX5_text_12 6 rfl rfl)
theorem dX5_text_277 : decode cX5_text 277 = .ok (.getfield 39, 3) := dk_180 0 39 (dk_at dksX5_text_12 7 rfl rfl)
theorem dX5_text_280 : decode cX5_text 280 = .ok (.bipush 24, 2) := dk_16 24 (dk_at dksX5_text_12 10 rfl rfl)
theorem dX5_text_282 : decode cX5_text 282 = .ok (.iload_n 1, 1) := dk_27 (dk_at dksX5_text_12 12 rfl rfl)
theorem dX5_text_283 : decode cX5_text 283 = .ok (.imul, 1) := dk_104 (dk_at dksX5_text_12 13 rfl rfl)
theorem dX5_text_284 : decode cX5_text 284 = .ok (.iload_n 2, 1) := dk_28 (dk_at dksX5_text_12 14 rfl rfl)
theorem dX5_text_285 : decode cX5_text 285 = .ok (.iadd, 1) := dk_96 (dk_at dksX5_text_12 15 rfl rfl)
theorem dX5_text_286 : decode cX5_text 286 = .ok (.aload_n 0, 1) := dk_42 (dk_at dksX5_text_12 16 rfl rfl)
theorem dX5_text_287 : decode cX5_text 287 = .ok (.getfield 69, 3) := dk_180 0 69 (dk_at dksX5_text_12 17 rfl rfl)
theorem dX5_text_290 : decode cX5_text 290 = .ok (.iload_n 2, 1) := dk_28 (dk_at dksX5_text_12 20 rfl rfl)
theorem dX5_text_291 : decode cX5_text 291 = .ok (.iaload, 1) := dk_46 (dk_at dksX5_text_12 21 rfl rfl)
theorem dX5_text_292 : decode cX5_text 292 = .ok (.iastore, 1) := dk_79 (dk_at dksX5_text_12 22 rfl rfl)
theorem dX5_text_293 : decode cX5_text 293 = .ok (.iinc 2 1, 3) := dk_132 2 1 (dk_at dksX5_text_13 0 rfl rfl)
theorem dX5_text_296 : decode cX5_text 296 = .ok (.goto (-85), 3) := dk_167 255 171 (dk_at dksX5_text_13 3 rfl rfl)
theorem dX5_text_299 : decode cX5_text 299 = .ok (.iconst 0, 1) := dk_3 (dk_at dksX5_text_13 6 rfl rfl)
theorem dX5_text_300 : decode cX5_text 300 = .ok (.istore_n 2, 1) := dk_61 (dk_at dksX5_text_13 7 rfl rfl)
theorem dX5_text_301 : decode cX5_text 301 = .ok (.iload_n 2, 1) := dk_28 (dk_at dksX5_text_13 8 rfl rfl)
theorem dX5_text_302 : decode cX5_text 302 = .ok (.aload_n 0, 1) := dk_42 (dk_at dksX5_text_13 9 rfl rfl)
theorem dX5_text_303 : decode cX5_text 303 = .ok (.getfield 204, 3) := dk_180 0 204 (dk_at dksX5_text_13 10 rfl rfl)
theorem dX5_text_306 : decode cX5_text 306 = .ok (.if_icmp .ge 45, 3) := dk_162 0 45 (dk_at dksX5_text_13 13 rfl rfl)
theorem dX5_text_309 : decode cX5_text 309 = .ok (.aload_n 0, 1) := dk_42 (dk_at dksX5_text_13 16 rfl rfl)
theorem dX5_text_310 : decode cX5_text 310 = .ok (.getfield 42, 3) := dk_180 0 42 (dk_at dksX5_text_13 17 rfl rfl)
theorem dX5_text_313 : decode cX5_text 313 = .ok (.sipush 400, 3) := dk_17 1 144 (dk_at dksX5_text_13 20 rfl rfl)
theorem dX5_text_316 : decode cX5_text 316 = .ok (.iload_n 1, 1) := dk_27 (dk_at dksX5_text_13 23 rfl rfl)
theorem dX5_text_317 : decode cX5_text 317 = .ok (.imul, 1) := dk_104 (dk_at dksX5_text_14 0 rfl rfl)
theorem dX5_text_318 : decode cX5_text 318 = .ok (.iload_n 2, 1) := dk_28 (dk_at dksX5_text_14 1 rfl rfl)
theorem dX5_text_319 : decode cX5_text 319 = .ok (.iadd, 1) := dk_96 (dk_at dksX5_text_14 2 rfl rfl)
theorem dX5_text_320 : decode cX5_text 320 = .ok (.aload_n 0, 1) := dk_42 (dk_at dksX5_text_14 3 rfl rfl)
theorem dX5_text_321 : decode cX5_text 321 = .ok (.getfield 72, 3) := dk_180 0 72 (dk_at dksX5_text_14 4 rfl rfl)
theorem dX5_text_324 : decode cX5_text 324 = .ok (.iload_n 2, 1) := dk_28 (dk_at dksX5_text_14 7 rfl rfl)
theorem dX5_text_325 : decode cX5_text 325 = .ok (.iaload, 1) := dk_46 (dk_at dksX5_text_14 8 rfl rfl)
theorem dX5_text_326 : decode cX5_text 326 = .ok (.iastore, 1) := dk_79 (dk_at dksX5_text_14 9 rfl rfl)
theorem dX5_text_327 : decode cX5_text 327 = .ok (.aload_n 0, 1) := dk_42 (dk_at dksX5_text_14 10 rfl rfl)
theorem dX5_text_328 : decode cX5_text 328 = .ok (.getfield 45, 3) := dk_180 0 45 (dk_at dksX5_text_14 11 rfl rfl)
theorem dX5_text_331 : decode cX5_text 331 = .ok (.sipush 400, 3) := dk_17 1 144 (dk_at dksX5_text_14 14 rfl rfl)
theorem dX5_text_334 : decode cX5_text 334 = .ok (.iload_n 1, 1) := dk_27 (dk_at dksX5_text_14 17 rfl rfl)
theorem dX5_text_335 : decode cX5_text 335 = .ok (.imul, 1) := dk_104 (dk_at dksX5_text_14 18 rfl rfl)
theorem dX5_text_336 : decode cX5_text 336 = .ok (.iload_n 2, 1) := dk_28 (dk_at dksX5_text_14 19 rfl rfl)
theorem dX5_text_337 : decode cX5_text 337 = .ok (.iadd, 1) := dk_96 (dk_at dksX5_text_14 20 rfl rfl)
theorem dX5_text_338 : decode cX5_text 338 = .ok (.aload_n 0, 1) := dk_42 (dk_at dksX5_text_14 21 rfl rfl)
theorem dX5_text_339 : decode cX5_text 339 = .ok (.getfield 75, 3) := dk_180 0 75 (dk_at dksX5_text_15 0 rfl rfl)
theorem dX5_text_342 : decode cX5_text 342 = .ok (.iload_n 2, 1) := dk_28 (dk_at dksX5_text_15 3 rfl rfl)
theorem dX5_text_343 : decode cX5_text 343 = .ok (.iaload, 1) := dk_46 (dk_at dksX5_text_15 4 rfl rfl)
theorem dX5_text_344 : decode cX5_text 344 = .ok (.iastore, 1) := dk_79 (dk_at dksX5_text_15 5 rfl rfl)
theorem dX5_text_345 : decode cX5_text 345 = .ok (.iinc 2 1, 3) := dk_132 2 1 (dk_at dksX5_text_15 6 rfl rfl)
theorem dX5_text_348 : decode cX5_text 348 = .ok (.goto (-47), 3) := dk_167 255 209 (dk_at dksX5_text_15 9 rfl rfl)
theorem dX5_text_351 : decode cX5_text 351 = .ok (.aload_n 0, 1) := dk_42 (dk_at dksX5_text_15 12 rfl rfl)
theorem dX5_text_352 : decode cX5_text 352 = .ok (.getfield 7, 3) := dk_180 0 7 (dk_at dksX5_text_15 13 rfl rfl)
theorem dX5_text_355 : decode cX5_text 355 = .ok (.iconst 1, 1) := dk_4 (dk_at dksX5_text_15 16 rfl rfl)
theorem dX5_text_356 : decode cX5_text 356 = .ok (.dup2, 1) := dk_92 (dk_at dksX5_text_15 17 rfl rfl)
theorem dX5_text_357 : decode cX5_text 357 = .ok (.iaload, 1) := dk_46 (dk_at dksX5_text_15 18 rfl rfl)
theorem dX5_text_358 : decode cX5_text 358 = .ok (.iconst 1, 1) := dk_4 (dk_at dksX5_text_15 19 rfl rfl)
theorem dX5_text_359 : decode cX5_text 359 = .ok (.iadd, 1) := dk_96 (dk_at dksX5_text_15 20 rfl rfl)
theorem dX5_text_360 : decode cX5_text 360 = .ok (.iastore, 1) := dk_79 (dk_at dksX5_text_15 21 rfl rfl)
theorem dX5_text_361 : decode cX5_text 361 = .ok (.iload_n 1, 1) := dk_27 (dk_at dksX5_text_15 22 rfl rfl)
theorem dX5_text_362 : decode cX5_text 362 = .ok (.ireturn, 1) := dk_172 (dk_at dksX5_text_15 23 rfl rfl)
abbrev cX5_nextToken : ByteArray := prog_23_method_16_code
def yX5_nextToken : MethodName := ⟨RX5, "nextToken", "()V"⟩
def dkwX5_nextToken_18 : List UInt8 := [167, 0, 6, 17, 1, 45, 181, 0, 194, 42, 89, 180, 0, 173, 4, 96, 181, 0, 173, 177]
abbrev dktX5_nextToken_18 : List UInt8 := dkwX5_nextToken_18 ++ []
def dkwX5_nextToken_17 : List UInt8 := [180, 0, 16, 42, 180, 0, 173, 51, 16, 61, 160, 0, 32, 42, 27, 16, 60, 160, 0, 9, 17, 1, 44]
abbrev dktX5_nextToken_17 : List UInt8 := dkwX5_nextToken_17 ++ dktX5_nextToken_18
def dkwX5_nextToken_16 : List UInt8 := [16, 60, 159, 0, 9, 27, 16, 62, 160, 0, 57, 42, 180, 0, 173, 42, 180, 0, 176, 162, 0, 46, 42]
abbrev dktX5_nextToken_16 : List UInt8 := dkwX5_nextToken_16 ++ dktX5_nextToken_17
def dkwX5_nextToken_15 : List UInt8 := [154, 0, 15, 27, 16, 47, 159, 0, 9, 27, 16, 35, 160, 0, 7, 6, 167, 0, 4, 7, 181, 0, 182, 27]
abbrev dktX5_nextToken_15 : List UInt8 := dkwX5_nextToken_15 ++ dktX5_nextToken_16
def dkwX5_nextToken_14 : List UInt8 := [181, 0, 194, 42, 27, 16, 59, 16, 62, 184, 0, 110, 154, 0, 26, 27, 16, 40, 16, 45, 184, 0, 110]
abbrev dktX5_nextToken_14 : List UInt8 := dkwX5_nextToken_14 ++ dktX5_nextToken_15
def dkwX5_nextToken_13 : List UInt8 := [89, 180, 0, 173, 4, 96, 181, 0, 173, 167, 255, 176, 42, 89, 180, 0, 173, 4, 96, 181, 0, 173, 42, 27]
abbrev dktX5_nextToken_13 : List UInt8 := dkwX5_nextToken_13 ++ dktX5_nextToken_14
def dkwX5_nextToken_12 : List UInt8 := [16, 10, 42, 180, 0, 194, 104, 42, 180, 0, 16, 42, 180, 0, 173, 51, 96, 16, 48, 100, 181, 0, 194, 42]
abbrev dktX5_nextToken_12 : List UInt8 := dkwX5_nextToken_12 ++ dktX5_nextToken_13
def dkwX5_nextToken_11 : List UInt8 := [184, 0, 110, 153, 0, 180, 42, 42, 180, 0, 194, 18, 197, 164, 0, 10, 42, 180, 0, 194, 167, 0, 23]
abbrev dktX5_nextToken_11 : List UInt8 := dkwX5_nextToken_11 ++ dktX5_nextToken_12
def dkwX5_nextToken_10 : List UInt8 := [42, 180, 0, 173, 42, 180, 0, 176, 162, 0, 199, 42, 180, 0, 16, 42, 180, 0, 173, 51, 16, 48, 16, 57]
abbrev dktX5_nextToken_10 : List UInt8 := dkwX5_nextToken_10 ++ dktX5_nextToken_11
def dkwX5_nextToken_9 : List UInt8 := [167, 0, 231, 27, 16, 48, 16, 57, 184, 0, 110, 153, 0, 96, 42, 5, 181, 0, 182, 42, 3, 181, 0, 194]
abbrev dktX5_nextToken_9 : List UInt8 := dkwX5_nextToken_9 ++ dktX5_nextToken_10
def dkwX5_nextToken_8 : List UInt8 := [184, 0, 190, 181, 0, 194, 42, 42, 180, 0, 194, 156, 0, 7, 7, 167, 0, 4, 4, 181, 0, 182]
abbrev dktX5_nextToken_8 : List UInt8 := dkwX5_nextToken_8 ++ dktX5_nextToken_9
def dkwX5_nextToken_7 : List UInt8 := [180, 0, 173, 4, 96, 181, 0, 173, 167, 255, 185, 42, 21, 4, 16, 8, 164, 0, 7, 2, 167, 0, 7, 32]
abbrev dktX5_nextToken_7 : List UInt8 := dkwX5_nextToken_7 ++ dktX5_nextToken_8
def dkwX5_nextToken_6 : List UInt8 := [180, 0, 16, 42, 180, 0, 173, 51, 133, 97, 20, 0, 188, 101, 167, 0, 4, 32, 65, 132, 4, 1, 42, 89]
abbrev dktX5_nextToken_6 : List UInt8 := dkwX5_nextToken_6 ++ dktX5_nextToken_7
def dkwX5_nextToken_5 : List UInt8 := [180, 0, 173, 51, 184, 0, 185, 153, 0, 51, 21, 4, 16, 9, 162, 0, 26, 20, 0, 188, 32, 105, 42]
abbrev dktX5_nextToken_5 : List UInt8 := dkwX5_nextToken_5 ++ dktX5_nextToken_6
def dkwX5_nextToken_4 : List UInt8 := [153, 0, 120, 9, 65, 3, 54, 4, 42, 180, 0, 173, 42, 180, 0, 176, 162, 0, 66, 42, 180, 0, 16, 42]
abbrev dktX5_nextToken_4 : List UInt8 := dkwX5_nextToken_4 ++ dktX5_nextToken_5
def dkwX5_nextToken_3 : List UInt8 := [160, 0, 9, 42, 3, 181, 0, 182, 177, 42, 180, 0, 16, 42, 180, 0, 173, 51, 60, 27, 184, 0, 185]
abbrev dktX5_nextToken_3 : List UInt8 := dkwX5_nextToken_3 ++ dktX5_nextToken_4
def dkwX5_nextToken_2 : List UInt8 := [181, 0, 173, 167, 255, 207, 42, 42, 180, 0, 173, 181, 0, 179, 42, 180, 0, 173, 42, 180, 0, 176]
abbrev dktX5_nextToken_2 : List UInt8 := dkwX5_nextToken_2 ++ dktX5_nextToken_3
def dkwX5_nextToken_1 : List UInt8 := [159, 0, 17, 42, 180, 0, 16, 42, 180, 0, 173, 51, 16, 10, 160, 0, 16, 42, 89, 180, 0, 173, 4, 96]
abbrev dktX5_nextToken_1 : List UInt8 := dkwX5_nextToken_1 ++ dktX5_nextToken_2
def dkwX5_nextToken_0 : List UInt8 := [42, 180, 0, 173, 42, 180, 0, 176, 162, 0, 44, 42, 180, 0, 16, 42, 180, 0, 173, 51, 16, 32]
abbrev dktX5_nextToken_0 : List UInt8 := dkwX5_nextToken_0 ++ dktX5_nextToken_1
theorem dksX5_nextToken_0 : cX5_nextToken.data.toList.drop 0 = dktX5_nextToken_0 := by decide +kernel
theorem dksX5_nextToken_1 : cX5_nextToken.data.toList.drop 22 = dktX5_nextToken_1 := dk_seg dksX5_nextToken_0 22 rfl rfl
theorem dksX5_nextToken_2 : cX5_nextToken.data.toList.drop 46 = dktX5_nextToken_2 := dk_seg dksX5_nextToken_1 24 rfl rfl
theorem dksX5_nextToken_3 : cX5_nextToken.data.toList.drop 68 = dktX5_nextToken_3 := dk_seg dksX5_nextToken_2 22 rfl rfl
theorem dksX5_nextToken_4 : cX5_nextToken.data.toList.drop 91 = dktX5_nextToken_4 := dk_seg dksX5_nextToken_3 23 rfl rfl
theorem dksX5_nextToken_5 : cX5_nextToken.data.toList.drop 115 = dktX5_nextToken_5 := dk_seg dksX5_nextToken_4 24 rfl rfl
theorem dksX5_nextToken_6 : cX5_nextToken.data.toList.drop 138 = dktX5_nextToken_6 := dk_seg dksX5_nextToken_5 23 rfl rfl
theorem dksX5_nextToken_7 : cX5_nextToken.data.toList.drop 162 = dktX5_nextToken_7 := dk_seg dksX5_nextToken_6 24 rfl rfl
theorem dksX5_nextToken_8 : cX5_nextToken.data.toList.drop 186 = dktX5_nextToken_8 := dk_seg dksX5_nextToken_7 24 rfl rfl
theorem dksX5_nextToken_9 : cX5_nextToken.data.toList.drop 208 = dktX5_nextToken_9 := dk_seg dksX5_nextToken_8 22 rfl rfl
theorem dksX5_nextToken_10 : cX5_nextToken.data.toList.drop 232 = dktX5_nextToken_10 := dk_seg dksX5_nextToken_9 24 rfl rfl
theorem dksX5_nextToken_11 : cX5_nextToken.data.toList.drop 256 = dktX5_nextToken_11 := dk_seg dksX5_nextToken_10 24 rfl rfl
theorem dksX5_nextToken_12 : cX5_nextToken.data.toList.drop 279 = dktX5_nextToken_12 := dk_seg dksX5_nextToken_11 23 rfl rfl
theorem dksX5_nextToken_13 : cX5_nextToken.data.toList.drop 303 = dktX5_nextToken_13 := dk_seg dksX5_nextToken_12 24 rfl rfl
theorem dksX5_nextToken_14 : cX5_nextToken.data.toList.drop 327 = dktX5_nextToken_14 := dk_seg dksX5_nextToken_13 24 rfl rfl
theorem dksX5_nextToken_15 : cX5_nextToken.data.toList.drop 350 = dktX5_nextToken_15 := dk_seg dksX5_nextToken_14 23 rfl rfl
theorem dksX5_nextToken_16 : cX5_nextToken.data.toList.drop 374 = dktX5_nextToken_16 := dk_seg dksX5_nextToken_15 24 rfl rfl
theorem dksX5_nextToken_17 : cX5_nextToken.data.toList.drop 397 = dktX5_nextToken_17 := dk_seg dksX5_nextToken_16 23 rfl rfl
theorem dksX5_nextToken_18 : cX5_nextToken.data.toList.drop 420 = dktX5_nextToken_18 := dk_seg dksX5_nextToken_17 23 rfl rfl
theorem dX5_nextToken_0 : decode cX5_nextToken 0 = .ok (.aload_n 0, 1) := dk_42 (dk_at dksX5_nextToken_0 0 rfl rfl)
theorem dX5_nextToken_1 : decode cX5_nextToken 1 = .ok (.getfield 173, 3) := dk_180 0 173 (dk_at dksX5_nextToken_0 1 rfl rfl)
theorem dX5_nextToken_4 : decode cX5_nextToken 4 = .ok (.aload_n 0, 1) := dk_42 (dk_at dksX5_nextToken_0 4 rfl rfl)
theorem dX5_nextToken_5 : decode cX5_nextToken 5 = .ok (.getfield 176, 3) := dk_180 0 176 (dk_at dksX5_nextToken_0 5 rfl rfl)
theorem dX5_nextToken_8 : decode cX5_nextToken 8 = .ok (.if_icmp .ge 44, 3) := dk_162 0 44 (dk_at dksX5_nextToken_0 8 rfl rfl)
theorem dX5_nextToken_11 : decode cX5_nextToken 11 = .ok (.aload_n 0, 1) := dk_42 (dk_at dksX5_nextToken_0 11 rfl rfl)
theorem dX5_nextToken_12 : decode cX5_nextToken 12 = .ok (.getfield 16, 3) := dk_180 0 16 (dk_at dksX5_nextToken_0 12 rfl rfl)
theorem dX5_nextToken_15 : decode cX5_nextToken 15 = .ok (.aload_n 0, 1) := dk_42 (dk_at dksX5_nextToken_0 15 rfl rfl)
theorem dX5_nextToken_16 : decode cX5_nextToken 16 = .ok (.getfield 173, 3) := dk_180 0 173 (dk_at dksX5_nextToken_0 16 rfl rfl)
theorem dX5_nextToken_19 : decode cX5_nextToken 19 = .ok (.baload, 1) := dk_51 (dk_at dksX5_nextToken_0 19 rfl rfl)
theorem dX5_nextToken_20 : decode cX5_nextToken 20 = .ok (.bipush 32, 2) := dk_16 32 (dk_at dksX5_nextToken_0 20 rfl rfl)
theorem dX5_nextToken_22 : decode cX5_nextToken 22 = .ok (.if_icmp .eq 17, 3) := dk_159 0 17 (dk_at dksX5_nextToken_1 0 rfl rfl)
theorem dX5_nextToken_25 : decode cX5_nextToken 25 = .ok (.aload_n 0, 1) := dk_42 (dk_at dksX5_nextToken_1 3 rfl rfl)
theorem dX5_nextToken_26 : decode cX5_nextToken 26 = .ok (.getfield 16, 3) := dk_180 0 16 (dk_at dksX5_nextToken_1 4 rfl rfl)
theorem dX5_nextToken_29 : decode cX5_nextToken 29 = .ok (.aload_n 0, 1) := dk_42 (dk_at dksX5_nextToken_1 7 rfl rfl)
theorem dX5_nextToken_30 : decode cX5_nextToken 30 = .ok (.getfield 173, 3) := dk_180 0 173 (dk_at dksX5_nextToken_1 8 rfl rfl)
theorem dX5_nextToken_33 : decode cX5_nextToken 33 = .ok (.baload, 1) := dk_51 (dk_at dksX5_nextToken_1 11 rfl rfl)
theorem dX5_nextToken_34 : decode cX5_nextToken 34 = .ok (.bipush 10, 2) := dk_16 10 (dk_at dksX5_nextToken_1 12 rfl rfl)
theorem dX5_nextToken_36 : decode cX5_nextToken 36 = .ok (.if_icmp .ne 16, 3) := dk_160 0 16 (dk_at dksX5_nextToken_1 14 rfl rfl)
theorem dX5_nextToken_39 : decode cX5_nextToken 39 = .ok (.aload_n 0, 1) := dk_42 (dk_at dksX5_nextToken_1 17 rfl rfl)
theorem dX5_nextToken_40 : decode cX5_nextToken 40 = .ok (.dup, 1) := dk_89 (dk_at dksX5_nextToken_1 18 rfl rfl)
theorem dX5_nextToken_41 : decode cX5_nextToken 41 = .ok (.getfield 173, 3) := dk_180 0 173 (dk_at dksX5_nextToken_1 19 rfl rfl)
theorem dX5_nextToken_44 : decode cX5_nextToken 44 = .ok (.iconst 1, 1) := dk_4 (dk_at dksX5_nextToken_1 22 rfl rfl)
theorem dX5_nextToken_45 : decode cX5_nextToken 45 = .ok (.iadd, 1) := dk_96 (dk_at dksX5_nextToken_1 23 rfl rfl)
theorem dX5_nextToken_46 : decode cX5_nextToken 46 = .ok (.putfield 173, 3) := dk_181 0 173 (dk_at dksX5_nextToken_2 0 rfl rfl)
theorem dX5_nextToken_49 : decode cX5_nextToken 49 = .ok (.goto (-49), 3) := dk_167 255 207 (dk_at dksX5_nextToken_2 3 rfl rfl)
theorem dX5_nextToken_52 : decode cX5_nextToken 52 = .ok (.aload_n 0, 1) := dk_42 (dk_at dksX5_nextToken_2 6 rfl rfl)
theorem dX5_nextToken_53 : decode cX5_nextToken 53 = .ok (.aload_n 0, 1) := dk_42 (dk_at dksX5_nextToken_2 7 rfl rfl)
theorem dX5_nextToken_54 : decode cX5_nextToken 54 = .ok (.getfield 173, 3) := dk_180 0 173 (dk_at dksX5_nextToken_2 8 rfl rfl)
theorem dX5_nextToken_57 : decode cX5_nextToken 57 = .ok (.putfield 179, 3) := dk_181 0 179 (dk_at dksX5_nextToken_2 11 rfl rfl)
theorem dX5_nextToken_60 : decode cX5_nextToken 60 = .ok (.aload_n 0, 1) := dk_42 (dk_at dksX5_nextToken_2 14 rfl rfl)
theorem dX5_nextToken_61 : decode cX5_nextToken 61 = .ok (.getfield 173, 3) := dk_180 0 173 (dk_at dksX5_nextToken_2 15 rfl rfl)
theorem dX5_nextToken_64 : decode cX5_nextToken 64 = .ok (.aload_n 0, 1) := dk_42 (dk_at dksX5_nextToken_2 18 rfl rfl)
theorem dX5_nextToken_65 : decode cX5_nextToken 65 = .ok (.getfield 176, 3) := dk_180 0 176 (dk_at dksX5_nextToken_2 19 rfl rfl)
theorem dX5_nextToken_68 : decode cX5_nextToken 68 = .ok (.if_icmp .ne 9, 3) := dk_160 0 9 (dk_at dksX5_nextToken_3 0 rfl rfl)
theorem dX5_nextToken_71 : decode cX5_nextToken 71 = .ok (.aload_n 0, 1) := dk_42 (dk_at dksX5_nextToken_3 3 rfl rfl)
theorem dX5_nextToken_72 : decode cX5_nextToken 72 = .ok (.iconst 0, 1) := dk_3 (dk_at dksX5_nextToken_3 4 rfl rfl)
theorem dX5_nextToken_73 : decode cX5_nextToken 73 = .ok (.putfield 182, 3) := dk_181 0 182 (dk_at dksX5_nextToken_3 5 rfl rfl)
theorem dX5_nextToken_76 : decode cX5_nextToken 76 = .ok (.return_, 1) := dk_177 (dk_at dksX5_nextToken_3 8 rfl rfl)
theorem dX5_nextToken_77 : decode cX5_nextToken 77 = .ok (.aload_n 0, 1) := dk_42 (dk_at dksX5_nextToken_3 9 rfl rfl)
theorem dX5_nextToken_78 : decode cX5_nextToken 78 = .ok (.getfield 16, 3) := dk_180 0 16 (dk_at dksX5_nextToken_3 10 rfl rfl)
theorem dX5_nextToken_81 : decode cX5_nextToken 81 = .ok (.aload_n 0, 1) := dk_42 (dk_at dksX5_nextToken_3 13 rfl rfl)
theorem dX5_nextToken_82 : decode cX5_nextToken 82 = .ok (.getfield 173, 3) := dk_180 0 173 (dk_at dksX5_nextToken_3 14 rfl rfl)
theorem dX5_nextToken_85 : decode cX5_nextToken 85 = .ok (.baload, 1) := dk_51 (dk_at dksX5_nextToken_3 17 rfl rfl)
theorem dX5_nextToken_86 : decode cX5_nextToken 86 = .ok (.istore_n 1, 1) := dk_60 (dk_at dksX5_nextToken_3 18 rfl rfl)
theorem dX5_nextToken_87 : decode cX5_nextToken 87 = .ok (.iload_n 1, 1) := dk_27 (dk_at dksX5_nextToken_3 19 rfl rfl)
theorem dX5_nextToken_88 : decode cX5_nextToken 88 = .ok (.invokestatic 185, 3) := dk_184 0 185 (dk_at dksX5_nextToken_3 20 rfl rfl)
theorem dX5_nextToken_91 : decode cX5_nextToken 91 = .ok (.ifCond .eq 120, 3) := dk_153 0 120 (dk_at dksX5_nextToken_4 0 rfl rfl)
theorem dX5_nextToken_94 : decode cX5_nextToken 94 = .ok (.lconst 0, 1) := dk_9 (dk_at dksX5_nextToken_4 3 rfl rfl)
theorem dX5_nextToken_95 : decode cX5_nextToken 95 = .ok (.lstore_n 2, 1) := dk_65 (dk_at dksX5_nextToken_4 4 rfl rfl)
theorem dX5_nextToken_96 : decode cX5_nextToken 96 = .ok (.iconst 0, 1) := dk_3 (dk_at dksX5_nextToken_4 5 rfl rfl)
theorem dX5_nextToken_97 : decode cX5_nextToken 97 = .ok (.istore 4, 2) := dk_54 4 (dk_at dksX5_nextToken_4 6 rfl rfl)
theorem dX5_nextToken_99 : decode cX5_nextToken 99 = .ok (.aload_n 0, 1) := dk_42 (dk_at dksX5_nextToken_4 8 rfl rfl)
theorem dX5_nextToken_100 : decode cX5_nextToken 100 = .ok (.getfield 173, 3) := dk_180 0 173 (dk_at dksX5_nextToken_4 9 rfl rfl)
theorem dX5_nextToken_103 : decode cX5_nextToken 103 = .ok (.aload_n 0, 1) := dk_42 (dk_at dksX5_nextToken_4 12 rfl rfl)
theorem dX5_nextToken_104 : decode cX5_nextToken 104 = .ok (.getfield 176, 3) := dk_180 0 176 (dk_at dksX5_nextToken_4 13 rfl rfl)
theorem dX5_nextToken_107 : decode cX5_nextToken 107 = .ok (.if_icmp .ge 66, 3) := dk_162 0 66 (dk_at dksX5_nextToken_4 16 rfl rfl)
theorem dX5_nextToken_110 : decode cX5_nextToken 110 = .ok (.aload_n 0, 1) := dk_42 (dk_at dksX5_nextToken_4 19 rfl rfl)
theorem dX5_nextToken_111 : decode cX5_nextToken 111 = .ok (.getfield 16, 3) := dk_180 0 16 (dk_at dksX5_nextToken_4 20 rfl rfl)
theorem dX5_nextToken_114 : decode cX5_nextToken 114 = .ok (.aload_n 0, 1) := dk_42 (dk_at dksX5_nextToken_4 23 rfl rfl)
theorem dX5_nextToken_115 : decode cX5_nextToken 115 = .ok (.getfield 173, 3) := dk_180 0 173 (dk_at dksX5_nextToken_5 0 rfl rfl)
theorem dX5_nextToken_118 : decode cX5_nextToken 118 = .ok (.baload, 1) := dk_51 (dk_at dksX5_nextToken_5 3 rfl rfl)
theorem dX5_nextToken_119 : decode cX5_nextToken 119 = .ok (.invokestatic 185, 3) := dk_184 0 185 (dk_at dksX5_nextToken_5 4 rfl rfl)
theorem dX5_nextToken_122 : decode cX5_nextToken 122 = .ok (.ifCond .eq 51, 3) := dk_153 0 51 (dk_at dksX5_nextToken_5 7 rfl rfl)
theorem dX5_nextToken_125 : decode cX5_nextToken 125 = .ok (.iload 4, 2) := dk_21 4 (dk_at dksX5_nextToken_5 10 rfl rfl)
theorem dX5_nextToken_127 : decode cX5_nextToken 127 = .ok (.bipush 9, 2) := dk_16 9 (dk_at dksX5_nextToken_5 12 rfl rfl)
theorem dX5_nextToken_129 : decode cX5_nextToken 129 = .ok (.if_icmp .ge 26, 3) := dk_162 0 26 (dk_at dksX5_nextToken_5 14 rfl rfl)
theorem dX5_nextToken_132 : decode cX5_nextToken 132 = .ok (.ldc2_w 188, 3) := dk_20 0 188 (dk_at dksX5_nextToken_5 17 rfl rfl)
theorem dX5_nextToken_135 : decode cX5_nextToken 135 = .ok (.lload_n 2, 1) := dk_32 (dk_at dksX5_nextToken_5 20 rfl rfl)
theorem dX5_nextToken_136 : decode cX5_nextToken 136 = .ok (.lmul, 1) := dk_105 (dk_at dksX5_nextToken_5 21 rfl rfl)
theorem dX5_nextToken_137 : decode cX5_nextToken 137 = .ok (.aload_n 0, 1) := dk_42 (dk_at dksX5_nextToken_5 22 rfl rfl)
theorem dX5_nextToken_138 : decode cX5_nextToken 138 = .ok (.getfield 16, 3) := dk_180 0 16 (dk_at dksX5_nextToken_6 0 rfl rfl)
theorem dX5_nextToken_141 : decode cX5_nextToken 141 = .ok (.aload_n 0, 1) := dk_42 (dk_at dksX5_nextToken_6 3 rfl rfl)
theorem dX5_nextToken_142 : decode cX5_nextToken 142 = .ok (.getfield 173, 3) := dk_180 0 173 (dk_at dksX5_nextToken_6 4 rfl rfl)
theorem dX5_nextToken_145 : decode cX5_nextToken 145 = .ok (.baload, 1) := dk_51 (dk_at dksX5_nextToken_6 7 rfl rfl)
theorem dX5_nextToken_146 : decode cX5_nextToken 146 = .ok (.i2l, 1) := dk_133 (dk_at dksX5_nextToken_6 8 rfl rfl)
theorem dX5_nextToken_147 : decode cX5_nextToken 147 = .ok (.ladd, 1) := dk_97 (dk_at dksX5_nextToken_6 9 rfl rfl)
theorem dX5_nextToken_148 : decode cX5_nextToken 148 = .ok (.ldc2_w 188, 3) := dk_20 0 188 (dk_at dksX5_nextToken_6 10 rfl rfl)
theorem dX5_nextToken_151 : decode cX5_nextToken 151 = .ok (.lsub, 1) := dk_101 (dk_at dksX5_nextToken_6 13 rfl rfl)
theorem dX5_nextToken_152 : decode cX5_nextToken 152 = .ok (.goto 4, 3) := dk_167 0 4 (dk_at dksX5_nextToken_6 14 rfl rfl)
theorem dX5_nextToken_155 : decode cX5_nextToken 155 = .ok (.lload_n 2, 1) := dk_32 (dk_at dksX5_nextToken_6 17 rfl rfl)
theorem dX5_nextToken_156 : decode cX5_nextToken 156 = .ok (.lstore_n 2, 1) := dk_65 (dk_at dksX5_nextToken_6 18 rfl rfl)
theorem dX5_nextToken_157 : decode cX5_nextToken 157 = .ok (.iinc 4 1, 3) := dk_132 4 1 (dk_at dksX5_nextToken_6 19 rfl rfl)
theorem dX5_nextToken_160 : decode cX5_nextToken 160 = .ok (.aload_n 0, 1) := dk_42 (dk_at dksX5_nextToken_6 22 rfl rfl)
theorem dX5_nextToken_161 : decode cX5_nextToken 161 = .ok (.dup, 1) := dk_89 (dk_at dksX5_nextToken_6 23 rfl rfl)
theorem dX5_nextToken_162 : decode cX5_nextToken 162 = .ok (.getfield 173, 3) := dk_180 0 173 (dk_at dksX5_nextToken_7 0 rfl rfl)
theorem dX5_nextToken_165 : decode cX5_nextToken 165 = .ok (.iconst 1, 1) := dk_4 (dk_at dksX5_nextToken_7 3 rfl rfl)
theorem dX5_nextToken_166 : decode cX5_nextToken 166 = .ok (.iadd, 1) := dk_96 (dk_at dksX5_nextToken_7 4 rfl rfl)
theorem dX5_nextToken_167 : decode cX5_nextToken 167 = .ok (.putfield 173, 3) := dk_181 0 173 (dk_at dksX5_nextToken_7 5 rfl rfl)
theorem dX5_nextToken_170 : decode cX5_nextToken 170 = .ok (.goto (-71), 3) := dk_167 255 185 (dk_at dksX5_nextToken_7 8 rfl rfl)
theorem dX5_nextToken_173 : decode cX5_nextToken 173 = .ok (.aload_n 0, 1) := dk_42 (dk_at dksX5_nextToken_7 11 rfl rfl)
theorem dX5_nextToken_174 : decode cX5_nextToken 174 = .ok (.iload 4, 2) := dk_21 4 (dk_at dksX5_nextToken_7 12 rfl rfl)
theorem dX5_nextToken_176 : decode cX5_nextToken 176 = .ok (.bipush 8, 2) := dk_16 8 (dk_at dksX5_nextToken_7 14 rfl rfl)
theorem dX5_nextToken_178 : decode cX5_nextToken 178 = .ok (.if_icmp .le 7, 3) := dk_164 0 7 (dk_at dksX5_nextToken_7 16 rfl rfl)
theorem dX5_nextToken_181 : decode cX5_nextToken 181 = .ok (.iconst (-1), 1) := dk_2 (dk_at dksX5_nextToken_7 19 rfl rfl)
theorem dX5_nextToken_182 : decode cX5_nextToken 182 = .ok (.goto 7, 3) := dk_167 0 7 (dk_at dksX5_nextToken_7 20 rfl rfl)
theorem dX5_nextToken_185 : decode cX5_nextToken 185 = .ok (.lload_n 2, 1) := dk_32 (dk_at dksX5_nextToken_7 23 rfl rfl)
theorem dX5_nextToken_186 : decode cX5_nextToken 186 = .ok (.invokestatic 190, 3) := dk_184 0 190 (dk_at dksX5_nextToken_8 0 rfl rfl)
theorem dX5_nextToken_189 : decode cX5_nextToken 189 = .ok (.putfield 194, 3) := dk_181 0 194 (dk_at dksX5_nextToken_8 3 rfl rfl)
theorem dX5_nextToken_192 : decode cX5_nextToken 192 = .ok (.aload_n 0, 1) := dk_42 (dk_at dksX5_nextToken_8 6 rfl rfl)
theorem dX5_nextToken_193 : decode cX5_nextToken 193 = .ok (.aload_n 0, 1) := dk_42 (dk_at dksX5_nextToken_8 7 rfl rfl)
theorem dX5_nextToken_194 : decode cX5_nextToken 194 = .ok (.getfield 194, 3) := dk_180 0 194 (dk_at dksX5_nextToken_8 8 rfl rfl)
theorem dX5_nextToken_197 : decode cX5_nextToken 197 = .ok (.ifCond .ge 7, 3) := dk_156 0 7 (dk_at dksX5_nextToken_8 11 rfl rfl)
theorem dX5_nextToken_200 : decode cX5_nextToken 200 = .ok (.iconst 4, 1) := dk_7 (dk_at dksX5_nextToken_8 14 rfl rfl)
theorem dX5_nextToken_201 : decode cX5_nextToken 201 = .ok (.goto 4, 3) := dk_167 0 4 (dk_at dksX5_nextToken_8 15 rfl rfl)
theorem dX5_nextToken_204 : decode cX5_nextToken 204 = .ok (.iconst 1, 1) := dk_4 (dk_at dksX5_nextToken_8 18 rfl rfl)
theorem dX5_nextToken_205 : decode cX5_nextToken 205 = .ok (.putfield 182, 3) := dk_181 0 182 (dk_at dksX5_nextToken_8 19 rfl rfl)
theorem dX5_nextToken_208 : decode cX5_nextToken 208 = .ok (.goto 231, 3) := dk_167 0 231 (dk_at dksX5_nextToken_9 0 rfl rfl)
theorem dX5_nextToken_211 : decode cX5_nextToken 211 = .ok (.iload_n 1, 1) := dk_27 (dk_at dksX5_nextToken_9 3 rfl rfl)
theorem dX5_nextToken_212 : decode cX5_nextToken 212 = .ok (.bipush 48, 2) := dk_16 48 (dk_at dksX5_nextToken_9 4 rfl rfl)
theorem dX5_nextToken_214 : decode cX5_nextToken 214 = .ok (.bipush 57, 2) := dk_16 57 (dk_at dksX5_nextToken_9 6 rfl rfl)
theorem dX5_nextToken_216 : decode cX5_nextToken 216 = .ok (.invokestatic 110, 3) := dk_184 0 110 (dk_at dksX5_nextToken_9 8 rfl rfl)
theorem dX5_nextToken_219 : decode cX5_nextToken 219 = .ok (.ifCond .eq 96, 3) := dk_153 0 96 (dk_at dksX5_nextToken_9 11 rfl rfl)
theorem dX5_nextToken_222 : decode cX5_nextToken 222 = .ok (.aload_n 0, 1) := dk_42 (dk_at dksX5_nextToken_9 14 rfl rfl)
theorem dX5_nextToken_223 : decode cX5_nextToken 223 = .ok (.iconst 2, 1) := dk_5 (dk_at dksX5_nextToken_9 15 rfl rfl)
theorem dX5_nextToken_224 : decode cX5_nextToken 224 = .ok (.putfield 182, 3) := dk_181 0 182 (dk_at dksX5_nextToken_9 16 rfl rfl)
theorem dX5_nextToken_227 : decode cX5_nextToken 227 = .ok (.aload_n 0, 1) := dk_42 (dk_at dksX5_nextToken_9 19 rfl rfl)
theorem dX5_nextToken_228 : decode cX5_nextToken 228 = .ok (.iconst 0, 1) := dk_3 (dk_at dksX5_nextToken_9 20 rfl rfl)
theorem dX5_nextToken_229 : decode cX5_nextToken 229 = .ok (.putfield 194, 3) := dk_181 0 194 (dk_at dksX5_nextToken_9 21 rfl rfl)
theorem dX5_nextToken_232 : decode cX5_nextToken 232 = .ok (.aload_n 0, 1) := dk_42 (dk_at dksX5_nextToken_10 0 rfl rfl)
theorem dX5_nextToken_233 : decode cX5_nextToken 233 = .ok (.getfield 173, 3) := dk_180 0 173 (dk_at dksX5_nextToken_10 1 rfl rfl)
theorem dX5_nextToken_236 : decode cX5_nextToken 236 = .ok (.aload_n 0, 1) := dk_42 (dk_at dksX5_nextToken_10 4 rfl rfl)
theorem dX5_nextToken_237 : decode cX5_nextToken 237 = .ok (.getfield 176, 3) := dk_180 0 176 (dk_at dksX5_nextToken_10 5 rfl rfl)
theorem dX5_nextToken_240 : decode cX5_nextToken 240 = .ok (.if_icmp .ge 199, 3) := dk_162 0 199 (dk_at dksX5_nextToken_10 8 rfl rfl)
theorem dX5_nextToken_243 : decode cX5_nextToken 243 = .ok (.aload_n 0, 1) := dk_42 (dk_at dksX5_nextToken_10 11 rfl rfl)
theorem dX5_nextToken_244 : decode cX5_nextToken 244 = .ok (.getfield 16, 3) := dk_180 0 16 (dk_at dksX5_nextToken_10 12 rfl rfl)
theorem dX5_nextToken_247 : decode cX5_nextToken 247 = .ok (.aload_n 0, 1) := dk_42 (dk_at dksX5_nextToken_10 15 rfl rfl)
theorem dX5_nextToken_248 : decode cX5_nextToken 248 = .ok (.getfield 173, 3) := dk_180 0 173 (dk_at dksX5_nextToken_10 16 rfl rfl)
theorem dX5_nextToken_251 : decode cX5_nextToken 251 = .ok (.baload, 1) := dk_51 (dk_at dksX5_nextToken_10 19 rfl rfl)
theorem dX5_nextToken_252 : decode cX5_nextToken 252 = .ok (.bipush 48, 2) := dk_16 48 (dk_at dksX5_nextToken_10 20 rfl rfl)
theorem dX5_nextToken_254 : decode cX5_nextToken 254 = .ok (.bipush 57, 2) := dk_16 57 (dk_at dksX5_nextToken_10 22 rfl rfl)
theorem dX5_nextToken_256 : decode cX5_nextToken 256 = .ok (.invokestatic 110, 3) := dk_184 0 110 (dk_at dksX5_nextToken_11 0 rfl rfl)
theorem dX5_nextToken_259 : decode cX5_nextToken 259 = .ok (.ifCond .eq 180, 3) := dk_153 0 180 (dk_at dksX5_nextToken_11 3 rfl rfl)
theorem dX5_nextToken_262 : decode cX5_nextToken 262 = .ok (.aload_n 0, 1) := dk_42 (dk_at dksX5_nextToken_11 6 rfl rfl)
theorem dX5_nextToken_263 : decode cX5_nextToken 263 = .ok (.aload_n 0, 1) := dk_42 (dk_at dksX5_nextToken_11 7 rfl rfl)
theorem dX5_nextToken_264 : decode cX5_nextToken 264 = .ok (.getfield 194, 3) := dk_180 0 194 (dk_at dksX5_nextToken_11 8 rfl rfl)
theorem dX5_nextToken_267 : decode cX5_nextToken 267 = .ok (.ldc 197, 2) := dk_18 197 (dk_at dksX5_nextToken_11 11 rfl rfl)
theorem dX5_nextToken_269 : decode cX5_nextToken 269 = .ok (.if_icmp .le 10, 3) := dk_164 0 10 (dk_at dksX5_nextToken_11 13 rfl rfl)
theorem dX5_nextToken_272 : decode cX5_nextToken 272 = .ok (.aload_n 0, 1) := dk_42 (dk_at dksX5_nextToken_11 16 rfl rfl)
theorem dX5_nextToken_273 : decode cX5_nextToken 273 = .ok (.getfield 194, 3) := dk_180 0 194 (dk_at dksX5_nextToken_11 17 rfl rfl)
theorem dX5_nextToken_276 : decode cX5_nextToken 276 = .ok (.goto 23, 3) := dk_167 0 23 (dk_at dksX5_nextToken_11 20 rfl rfl)
theorem dX5_nextToken_279 : decode cX5_nextToken 279 = .ok (.bipush 10, 2) := dk_16 10 (dk_at dksX5_nextToken_12 0 rfl rfl)
theorem dX5_nextToken_281 : decode cX5_nextToken 281 = .ok (.aload_n 0, 1) := dk_42 (dk_at dksX5_nextToken_12 2 rfl rfl)
theorem dX5_nextToken_282 : decode cX5_nextToken 282 = .ok (.getfield 194, 3) := dk_180 0 194 (dk_at dksX5_nextToken_12 3 rfl rfl)
theorem dX5_nextToken_285 : decode cX5_nextToken 285 = .ok (.imul, 1) := dk_104 (dk_at dksX5_nextToken_12 6 rfl rfl)
theorem dX5_nextToken_286 : decode cX5_nextToken 286 = .ok (.aload_n 0, 1) := dk_42 (dk_at dksX5_nextToken_12 7 rfl rfl)
theorem dX5_nextToken_287 : decode cX5_nextToken 287 = .ok (.getfield 16, 3) := dk_180 0 16 (dk_at dksX5_nextToken_12 8 rfl rfl)
theorem dX5_nextToken_290 : decode cX5_nextToken 290 = .ok (.aload_n 0, 1) := dk_42 (dk_at dksX5_nextToken_12 11 rfl rfl)
theorem dX5_nextToken_291 : decode cX5_nextToken 291 = .ok (.getfield 173, 3) := dk_180 0 173 (dk_at dksX5_nextToken_12 12 rfl rfl)
theorem dX5_nextToken_294 : decode cX5_nextToken 294 = .ok (.baload, 1) := dk_51 (dk_at dksX5_nextToken_12 15 rfl rfl)
theorem dX5_nextToken_295 : decode cX5_nextToken 295 = .ok (.iadd, 1) := dk_96 (dk_at dksX5_nextToken_12 16 rfl rfl)
theorem dX5_nextToken_296 : decode cX5_nextToken 296 = .ok (.bipush 48, 2) := dk_16 48 (dk_at dksX5_nextToken_12 17 rfl rfl)
theorem dX5_nextToken_298 : decode cX5_nextToken 298 = .ok (.isub, 1) := dk_100 (dk_at dksX5_nextToken_12 19 rfl rfl)
theorem dX5_nextToken_299 : decode cX5_nextToken 299 = .ok (.putfield 194, 3) := dk_181 0 194 (dk_at dksX5_nextToken_12 20 rfl rfl)
theorem dX5_nextToken_302 : decode cX5_nextToken 302 = .ok (.aload_n 0, 1) := dk_42 (dk_at dksX5_nextToken_12 23 rfl rfl)
theorem dX5_nextToken_303 : decode cX5_nextToken 303 = .ok (.dup, 1) := dk_89 (dk_at dksX5_nextToken_13 0 rfl rfl)
theorem dX5_nextToken_304 : decode cX5_nextToken 304 = .ok (.getfield 173, 3) := dk_180 0 173 (dk_at dksX5_nextToken_13 1 rfl rfl)
theorem dX5_nextToken_307 : decode cX5_nextToken 307 = .ok (.iconst 1, 1) := dk_4 (dk_at dksX5_nextToken_13 4 rfl rfl)
theorem dX5_nextToken_308 : decode cX5_nextToken 308 = .ok (.iadd, 1) := dk_96 (dk_at dksX5_nextToken_13 5 rfl rfl)
theorem dX5_nextToken_309 : decode cX5_nextToken 309 = .ok (.putfield 173, 3) := dk_181 0 173 (dk_at dksX5_nextToken_13 6 rfl rfl)
theorem dX5_nextToken_312 : decode cX5_nextToken 312 = .ok (.goto (-80), 3) := dk_167 255 176 (dk_at dksX5_nextToken_13 9 rfl rfl)
theorem dX5_nextToken_315 : decode cX5_nextToken 315 = .ok (.aload_n 0, 1) := dk_42 (dk_at dksX5_nextToken_13 12 rfl rfl)
theorem dX5_nextToken_316 : decode cX5_nextToken 316 = .ok (.dup, 1) := dk_89 (dk_at dksX5_nextToken_13 13 rfl rfl)
theorem dX5_nextToken_317 : decode cX5_nextToken 317 = .ok (.getfield 173, 3) := dk_180 0 173 (dk_at dksX5_nextToken_13 14 rfl rfl)
theorem dX5_nextToken_320 : decode cX5_nextToken 320 = .ok (.iconst 1, 1) := dk_4 (dk_at dksX5_nextToken_13 17 rfl rfl)
theorem dX5_nextToken_321 : decode cX5_nextToken 321 = .ok (.iadd, 1) := dk_96 (dk_at dksX5_nextToken_13 18 rfl rfl)
theorem dX5_nextToken_322 : decode cX5_nextToken 322 = .ok (.putfield 173, 3) := dk_181 0 173 (dk_at dksX5_nextToken_13 19 rfl rfl)
theorem dX5_nextToken_325 : decode cX5_nextToken 325 = .ok (.aload_n 0, 1) := dk_42 (dk_at dksX5_nextToken_13 22 rfl rfl)
theorem dX5_nextToken_326 : decode cX5_nextToken 326 = .ok (.iload_n 1, 1) := dk_27 (dk_at dksX5_nextToken_13 23 rfl rfl)
theorem dX5_nextToken_327 : decode cX5_nextToken 327 = .ok (.putfield 194, 3) := dk_181 0 194 (dk_at dksX5_nextToken_14 0 rfl rfl)
theorem dX5_nextToken_330 : decode cX5_nextToken 330 = .ok (.aload_n 0, 1) := dk_42 (dk_at dksX5_nextToken_14 3 rfl rfl)
theorem dX5_nextToken_331 : decode cX5_nextToken 331 = .ok (.iload_n 1, 1) := dk_27 (dk_at dksX5_nextToken_14 4 rfl rfl)
theorem dX5_nextToken_332 : decode cX5_nextToken 332 = .ok (.bipush 59, 2) := dk_16 59 (dk_at dksX5_nextToken_14 5 rfl rfl)
theorem dX5_nextToken_334 : decode cX5_nextToken 334 = .ok (.bipush 62, 2) := dk_16 62 (dk_at dksX5_nextToken_14 7 rfl rfl)
theorem dX5_nextToken_336 : decode cX5_nextToken 336 = .ok (.invokestatic 110, 3) := dk_184 0 110 (dk_at dksX5_nextToken_14 9 rfl rfl)
theorem dX5_nextToken_339 : decode cX5_nextToken 339 = .ok (.ifCond .ne 26, 3) := dk_154 0 26 (dk_at dksX5_nextToken_14 12 rfl rfl)
theorem dX5_nextToken_342 : decode cX5_nextToken 342 = .ok (.iload_n 1, 1) := dk_27 (dk_at dksX5_nextToken_14 15 rfl rfl)
theorem dX5_nextToken_343 : decode cX5_nextToken 343 = .ok (.bipush 40, 2) := dk_16 40 (dk_at dksX5_nextToken_14 16 rfl rfl)
theorem dX5_nextToken_345 : decode cX5_nextToken 345 = .ok (.bipush 45, 2) := dk_16 45 (dk_at dksX5_nextToken_14 18 rfl rfl)
theorem dX5_nextToken_347 : decode cX5_nextToken 347 = .ok (.invokestatic 110, 3) := dk_184 0 110 (dk_at dksX5_nextToken_14 20 rfl rfl)
theorem dX5_nextToken_350 : decode cX5_nextToken 350 = .ok (.ifCond .ne 15, 3) := dk_154 0 15 (dk_at dksX5_nextToken_15 0 rfl rfl)
theorem dX5_nextToken_353 : decode cX5_nextToken 353 = .ok (.iload_n 1, 1) := dk_27 (dk_at dksX5_nextToken_15 3 rfl rfl)
theorem dX5_nextToken_354 : decode cX5_nextToken 354 = .ok (.bipush 47, 2) := dk_16 47 (dk_at dksX5_nextToken_15 4 rfl rfl)
theorem dX5_nextToken_356 : decode cX5_nextToken 356 = .ok (.if_icmp .eq 9, 3) := dk_159 0 9 (dk_at dksX5_nextToken_15 6 rfl rfl)
theorem dX5_nextToken_359 : decode cX5_nextToken 359 = .ok (.iload_n 1, 1) := dk_27 (dk_at dksX5_nextToken_15 9 rfl rfl)
theorem dX5_nextToken_360 : decode cX5_nextToken 360 = .ok (.bipush 35, 2) := dk_16 35 (dk_at dksX5_nextToken_15 10 rfl rfl)
theorem dX5_nextToken_362 : decode cX5_nextToken 362 = .ok (.if_icmp .ne 7, 3) := dk_160 0 7 (dk_at dksX5_nextToken_15 12 rfl rfl)
theorem dX5_nextToken_365 : decode cX5_nextToken 365 = .ok (.iconst 3, 1) := dk_6 (dk_at dksX5_nextToken_15 15 rfl rfl)
theorem dX5_nextToken_366 : decode cX5_nextToken 366 = .ok (.goto 4, 3) := dk_167 0 4 (dk_at dksX5_nextToken_15 16 rfl rfl)
theorem dX5_nextToken_369 : decode cX5_nextToken 369 = .ok (.iconst 4, 1) := dk_7 (dk_at dksX5_nextToken_15 19 rfl rfl)
theorem dX5_nextToken_370 : decode cX5_nextToken 370 = .ok (.putfield 182, 3) := dk_181 0 182 (dk_at dksX5_nextToken_15 20 rfl rfl)
theorem dX5_nextToken_373 : decode cX5_nextToken 373 = .ok (.iload_n 1, 1) := dk_27 (dk_at dksX5_nextToken_15 23 rfl rfl)
theorem dX5_nextToken_374 : decode cX5_nextToken 374 = .ok (.bipush 60, 2) := dk_16 60 (dk_at dksX5_nextToken_16 0 rfl rfl)
theorem dX5_nextToken_376 : decode cX5_nextToken 376 = .ok (.if_icmp .eq 9, 3) := dk_159 0 9 (dk_at dksX5_nextToken_16 2 rfl rfl)
theorem dX5_nextToken_379 : decode cX5_nextToken 379 = .ok (.iload_n 1, 1) := dk_27 (dk_at dksX5_nextToken_16 5 rfl rfl)
theorem dX5_nextToken_380 : decode cX5_nextToken 380 = .ok (.bipush 62, 2) := dk_16 62 (dk_at dksX5_nextToken_16 6 rfl rfl)
theorem dX5_nextToken_382 : decode cX5_nextToken 382 = .ok (.if_icmp .ne 57, 3) := dk_160 0 57 (dk_at dksX5_nextToken_16 8 rfl rfl)
theorem dX5_nextToken_385 : decode cX5_nextToken 385 = .ok (.aload_n 0, 1) := dk_42 (dk_at dksX5_nextToken_16 11 rfl rfl)
theorem dX5_nextToken_386 : decode cX5_nextToken 386 = .ok (.getfield 173, 3) := dk_180 0 173 (dk_at dksX5_nextToken_16 12 rfl rfl)
theorem dX5_nextToken_389 : decode cX5_nextToken 389 = .ok (.aload_n 0, 1) := dk_42 (dk_at dksX5_nextToken_16 15 rfl rfl)
theorem dX5_nextToken_390 : decode cX5_nextToken 390 = .ok (.getfield 176, 3) := dk_180 0 176 (dk_at dksX5_nextToken_16 16 rfl rfl)
theorem dX5_nextToken_393 : decode cX5_nextToken 393 = .ok (.if_icmp .ge 46, 3) := dk_162 0 46 (dk_at dksX5_nextToken_16 19 rfl rfl)
theorem dX5_nextToken_396 : decode cX5_nextToken 396 = .ok (.aload_n 0, 1) := dk_42 (dk_at dksX5_nextToken_16 22 rfl rfl)
theorem dX5_nextToken_397 : decode cX5_nextToken 397 = .ok (.getfield 16, 3) := dk_180 0 16 (dk_at dksX5_nextToken_17 0 rfl rfl)
theorem dX5_nextToken_400 : decode cX5_nextToken 400 = .ok (.aload_n 0, 1) := dk_42 (dk_at dksX5_nextToken_17 3 rfl rfl)
theorem dX5_nextToken_401 : decode cX5_nextToken 401 = .ok (.getfield 173, 3) := dk_180 0 173 (dk_at dksX5_nextToken_17 4 rfl rfl)
theorem dX5_nextToken_404 : decode cX5_nextToken 404 = .ok (.baload, 1) := dk_51 (dk_at dksX5_nextToken_17 7 rfl rfl)
theorem dX5_nextToken_405 : decode cX5_nextToken 405 = .ok (.bipush 61, 2) := dk_16 61 (dk_at dksX5_nextToken_17 8 rfl rfl)
theorem dX5_nextToken_407 : decode cX5_nextToken 407 = .ok (.if_icmp .ne 32, 3) := dk_160 0 32 (dk_at dksX5_nextToken_17 10 rfl rfl)
theorem dX5_nextToken_410 : decode cX5_nextToken 410 = .ok (.aload_n 0, 1) := dk_42 (dk_at dksX5_nextToken_17 13 rfl rfl)
theorem dX5_nextToken_411 : decode cX5_nextToken 411 = .ok (.iload_n 1, 1) := dk_27 (dk_at dksX5_nextToken_17 14 rfl rfl)
theorem dX5_nextToken_412 : decode cX5_nextToken 412 = .ok (.bipush 60, 2) := dk_16 60 (dk_at dksX5_nextToken_17 15 rfl rfl)
theorem dX5_nextToken_414 : decode cX5_nextToken 414 = .ok (.if_icmp .ne 9, 3) := dk_160 0 9 (dk_at dksX5_nextToken_17 17 rfl rfl)
theorem dX5_nextToken_417 : decode cX5_nextToken 417 = .ok (.sipush 300, 3) := dk_17 1 44 (dk_at dksX5_nextToken_17 20 rfl rfl)
theorem dX5_nextToken_420 : decode cX5_nextToken 420 = .ok (.goto 6, 3) := dk_167 0 6 (dk_at dksX5_nextToken_18 0 rfl rfl)
theorem dX5_nextToken_423 : decode cX5_nextToken 423 = .ok (.sipush 301, 3) := dk_17 1 45 (dk_at dksX5_nextToken_18 3 rfl rfl)
theorem dX5_nextToken_426 : decode cX5_nextToken 426 = .ok (.putfield 194, 3) := dk_181 0 194 (dk_at dksX5_nextToken_18 6 rfl rfl)
theorem dX5_nextToken_429 : decode cX5_nextToken 429 = .ok (.aload_n 0, 1) := dk_42 (dk_at dksX5_nextToken_18 9 rfl rfl)
theorem dX5_nextToken_430 : decode cX5_nextToken 430 = .ok (.dup, 1) := dk_89 (dk_at dksX5_nextToken_18 10 rfl rfl)
theorem dX5_nextToken_431 : decode cX5_nextToken 431 = .ok (.getfield 173, 3) := dk_180 0 173 (dk_at dksX5_nextToken_18 11 rfl rfl)
theorem dX5_nextToken_434 : decode cX5_nextToken 434 = .ok (.iconst 1, 1) := dk_4 (dk_at dksX5_nextToken_18 14 rfl rfl)
theorem dX5_nextToken_435 : decode cX5_nextToken 435 = .ok (.iadd, 1) := dk_96 (dk_at dksX5_nextToken_18 15 rfl rfl)
theorem dX5_nextToken_436 : decode cX5_nextToken 436 = .ok (.putfield 173, 3) := dk_181 0 173 (dk_at dksX5_nextToken_18 16 rfl rfl)
theorem dX5_nextToken_439 : decode cX5_nextToken 439 = .ok (.return_, 1) := dk_177 (dk_at dksX5_nextToken_18 19 rfl rfl)
abbrev cX5_isLetter : ByteArray := prog_23_method_14_code
def yX5_isLetter : MethodName := ⟨RX5, "isLetter", "(I)Z"⟩
def dkwX5_isLetter_1 : List UInt8 := [167, 0, 4, 3, 172]
abbrev dktX5_isLetter_1 : List UInt8 := dkwX5_isLetter_1 ++ []
def dkwX5_isLetter_0 : List UInt8 := [26, 16, 97, 16, 122, 184, 0, 110, 154, 0, 14, 26, 16, 65, 16, 90, 184, 0, 110, 153, 0, 7, 4]
abbrev dktX5_isLetter_0 : List UInt8 := dkwX5_isLetter_0 ++ dktX5_isLetter_1
theorem dksX5_isLetter_0 : cX5_isLetter.data.toList.drop 0 = dktX5_isLetter_0 := by decide +kernel
theorem dksX5_isLetter_1 : cX5_isLetter.data.toList.drop 23 = dktX5_isLetter_1 := dk_seg dksX5_isLetter_0 23 rfl rfl
theorem dX5_isLetter_0 : decode cX5_isLetter 0 = .ok (.iload_n 0, 1) := dk_26 (dk_at dksX5_isLetter_0 0 rfl rfl)
theorem dX5_isLetter_1 : decode cX5_isLetter 1 = .ok (.bipush 97, 2) := dk_16 97 (dk_at dksX5_isLetter_0 1 rfl rfl)
theorem dX5_isLetter_3 : decode cX5_isLetter 3 = .ok (.bipush 122, 2) := dk_16 122 (dk_at dksX5_isLetter_0 3 rfl rfl)
theorem dX5_isLetter_5 : decode cX5_isLetter 5 = .ok (.invokestatic 110, 3) := dk_184 0 110 (dk_at dksX5_isLetter_0 5 rfl rfl)
theorem dX5_isLetter_8 : decode cX5_isLetter 8 = .ok (.ifCond .ne 14, 3) := dk_154 0 14 (dk_at dksX5_isLetter_0 8 rfl rfl)
theorem dX5_isLetter_11 : decode cX5_isLetter 11 = .ok (.iload_n 0, 1) := dk_26 (dk_at dksX5_isLetter_0 11 rfl rfl)
theorem dX5_isLetter_12 : decode cX5_isLetter 12 = .ok (.bipush 65, 2) := dk_16 65 (dk_at dksX5_isLetter_0 12 rfl rfl)
theorem dX5_isLetter_14 : decode cX5_isLetter 14 = .ok (.bipush 90, 2) := dk_16 90 (dk_at dksX5_isLetter_0 14 rfl rfl)
theorem dX5_isLetter_16 : decode cX5_isLetter 16 = .ok (.invokestatic 110, 3) := dk_184 0 110 (dk_at dksX5_isLetter_0 16 rfl rfl)
theorem dX5_isLetter_19 : decode cX5_isLetter 19 = .ok (.ifCond .eq 7, 3) := dk_153 0 7 (dk_at dksX5_isLetter_0 19 rfl rfl)
theorem dX5_isLetter_22 : decode cX5_isLetter 22 = .ok (.iconst 1, 1) := dk_4 (dk_at dksX5_isLetter_0 22 rfl rfl)
theorem dX5_isLetter_23 : decode cX5_isLetter 23 = .ok (.goto 4, 3) := dk_167 0 4 (dk_at dksX5_isLetter_1 0 rfl rfl)
theorem dX5_isLetter_26 : decode cX5_isLetter 26 = .ok (.iconst 0, 1) := dk_3 (dk_at dksX5_isLetter_1 3 rfl rfl)
theorem dX5_isLetter_27 : decode cX5_isLetter 27 = .ok (.ireturn, 1) := dk_172 (dk_at dksX5_isLetter_1 4 rfl rfl)
abbrev cX5_wordOf : ByteArray := prog_23_method_15_code
def yX5_wordOf : MethodName := ⟨RX5, "wordOf", "(J)I"⟩
def dkwX5_wordOf_11 : List UInt8 := [20, 0, 171, 148, 154, 0, 6, 16, 23, 172, 2, 172]
abbrev dktX5_wordOf_11 : List UInt8 := dkwX5_wordOf_11 ++ []
def dkwX5_wordOf_10 : List UInt8 := [20, 0, 167, 148, 154, 0, 6, 16, 21, 172, 30, 20, 0, 169, 148, 154, 0, 6, 16, 22, 172, 30]
abbrev dktX5_wordOf_10 : List UInt8 := dkwX5_wordOf_10 ++ dktX5_wordOf_11
def dkwX5_wordOf_9 : List UInt8 := [20, 0, 163, 148, 154, 0, 6, 16, 19, 172, 30, 20, 0, 165, 148, 154, 0, 6, 16, 20, 172, 30]
abbrev dktX5_wordOf_9 : List UInt8 := dkwX5_wordOf_9 ++ dktX5_wordOf_10
def dkwX5_wordOf_8 : List UInt8 := [20, 0, 159, 148, 154, 0, 6, 16, 17, 172, 30, 20, 0, 161, 148, 154, 0, 6, 16, 18, 172, 30]
abbrev dktX5_wordOf_8 : List UInt8 := dkwX5_wordOf_8 ++ dktX5_wordOf_9
def dkwX5_wordOf_7 : List UInt8 := [20, 0, 155, 148, 154, 0, 6, 16, 15, 172, 30, 20, 0, 157, 148, 154, 0, 6, 16, 16, 172, 30]
abbrev dktX5_wordOf_7 : List UInt8 := dkwX5_wordOf_7 ++ dktX5_wordOf_8
def dkwX5_wordOf_6 : List UInt8 := [20, 0, 151, 148, 154, 0, 6, 16, 13, 172, 30, 20, 0, 153, 148, 154, 0, 6, 16, 14, 172, 30]
abbrev dktX5_wordOf_6 : List UInt8 := dkwX5_wordOf_6 ++ dktX5_wordOf_7
def dkwX5_wordOf_5 : List UInt8 := [20, 0, 147, 148, 154, 0, 6, 16, 11, 172, 30, 20, 0, 149, 148, 154, 0, 6, 16, 12, 172, 30]
abbrev dktX5_wordOf_5 : List UInt8 := dkwX5_wordOf_5 ++ dktX5_wordOf_6
def dkwX5_wordOf_4 : List UInt8 := [20, 0, 143, 148, 154, 0, 6, 16, 9, 172, 30, 20, 0, 145, 148, 154, 0, 6, 16, 10, 172, 30]
abbrev dktX5_wordOf_4 : List UInt8 := dkwX5_wordOf_4 ++ dktX5_wordOf_5
def dkwX5_wordOf_3 : List UInt8 := [20, 0, 139, 148, 154, 0, 6, 16, 7, 172, 30, 20, 0, 141, 148, 154, 0, 6, 16, 8, 172, 30]
abbrev dktX5_wordOf_3 : List UInt8 := dkwX5_wordOf_3 ++ dktX5_wordOf_4
def dkwX5_wordOf_2 : List UInt8 := [7, 172, 30, 20, 0, 135, 148, 154, 0, 5, 8, 172, 30, 20, 0, 137, 148, 154, 0, 6, 16, 6, 172, 30]
abbrev dktX5_wordOf_2 : List UInt8 := dkwX5_wordOf_2 ++ dktX5_wordOf_3
def dkwX5_wordOf_1 : List UInt8 := [148, 154, 0, 5, 5, 172, 30, 20, 0, 131, 148, 154, 0, 5, 6, 172, 30, 20, 0, 133, 148, 154, 0, 5]
abbrev dktX5_wordOf_1 : List UInt8 := dkwX5_wordOf_1 ++ dktX5_wordOf_2
def dkwX5_wordOf_0 : List UInt8 := [30, 20, 0, 125, 148, 154, 0, 5, 3, 172, 30, 20, 0, 127, 148, 154, 0, 5, 4, 172, 30, 20, 0, 129]
abbrev dktX5_wordOf_0 : List UInt8 := dkwX5_wordOf_0 ++ dktX5_wordOf_1
theorem dksX5_wordOf_0 : cX5_wordOf.data.toList.drop 0 = dktX5_wordOf_0 := by decide +kernel
theorem dksX5_wordOf_1 : cX5_wordOf.data.toList.drop 24 = dktX5_wordOf_1 := dk_seg dksX5_wordOf_0 24 rfl rfl
theorem dksX5_wordOf_2 : cX5_wordOf.data.toList.drop 48 = dktX5_wordOf_2 := dk_seg dksX5_wordOf_1 24 rfl rfl
theorem dksX5_wordOf_3 : cX5_wordOf.data.toList.drop 72 = dktX5_wordOf_3 := dk_seg dksX5_wordOf_2 24 rfl rfl
theorem dksX5_wordOf_4 : cX5_wordOf.data.toList.drop 94 = dktX5_wordOf_4 := dk_seg dksX5_wordOf_3 22 rfl rfl
theorem dksX5_wordOf_5 : cX5_wordOf.data.toList.drop 116 = dktX5_wordOf_5 := dk_seg dksX5_wordOf_4 22 rfl rfl
theorem dksX5_wordOf_6 : cX5_wordOf.data.toList.drop 138 = dktX5_wordOf_6 := dk_seg dksX5_wordOf_5 22 rfl rfl
theorem dksX5_wordOf_7 : cX5_wordOf.data.toList.drop 160 = dktX5_wordOf_7 := dk_seg dksX5_wordOf_6 22 rfl rfl
theorem dksX5_wordOf_8 : cX5_wordOf.data.toList.drop 182 = dktX5_wordOf_8 := dk_seg dksX5_wordOf_7 22 rfl rfl
theorem dksX5_wordOf_9 : cX5_wordOf.data.toList.drop 204 = dktX5_wordOf_9 := dk_seg dksX5_wordOf_8 22 rfl rfl
theorem dksX5_wordOf_10 : cX5_wordOf.data.toList.drop 226 = dktX5_wordOf_10 := dk_seg dksX5_wordOf_9 22 rfl rfl
theorem dksX5_wordOf_11 : cX5_wordOf.data.toList.drop 248 = dktX5_wordOf_11 := dk_seg dksX5_wordOf_10 22 rfl rfl
theorem dX5_wordOf_0 : decode cX5_wordOf 0 = .ok (.lload_n 0, 1) := dk_30 (dk_at dksX5_wordOf_0 0 rfl rfl)
theorem dX5_wordOf_1 : decode cX5_wordOf 1 = .ok (.ldc2_w 125, 3) := dk_20 0 125 (dk_at dksX5_wordOf_0 1 rfl rfl)
theorem dX5_wordOf_4 : decode cX5_wordOf 4 = .ok (.lcmp, 1) := dk_148 (dk_at dksX5_wordOf_0 4 rfl rfl)
theorem dX5_wordOf_5 : decode cX5_wordOf 5 = .ok (.ifCond .ne 5, 3) := dk_154 0 5 (dk_at dksX5_wordOf_0 5 rfl rfl)
theorem dX5_wordOf_8 : decode cX5_wordOf 8 = .ok (.iconst 0, 1) := dk_3 (dk_at dksX5_wordOf_0 8 rfl rfl)
theorem dX5_wordOf_9 : decode cX5_wordOf 9 = .ok (.ireturn, 1) := dk_172 (dk_at dksX5_wordOf_0 9 rfl rfl)
theorem dX5_wordOf_10 : decode cX5_wordOf 10 = .ok (.lload_n 0, 1) := dk_30 (dk_at dksX5_wordOf_0 10 rfl rfl)
theorem dX5_wordOf_11 : decode cX5_wordOf 11 = .ok (.ldc2_w 127, 3) := dk_20 0 127 (dk_at dksX5_wordOf_0 11 rfl rfl)
theorem dX5_wordOf_14 : decode cX5_wordOf 14 = .ok (.lcmp, 1) := dk_148 (dk_at dksX5_wordOf_0 14 rfl rfl)
theorem dX5_wordOf_15 : decode cX5_wordOf 15 = .ok (.ifCond .ne 5, 3) := dk_154 0 5 (dk_at dksX5_wordOf_0 15 rfl rfl)
theorem dX5_wordOf_18 : decode cX5_wordOf 18 = .ok (.iconst 1, 1) := dk_4 (dk_at dksX5_wordOf_0 18 rfl rfl)
theorem dX5_wordOf_19 : decode cX5_wordOf 19 = .ok (.ireturn, 1) := dk_172 (dk_at dksX5_wordOf_0 19 rfl rfl)
theorem dX5_wordOf_20 : decode cX5_wordOf 20 = .ok (.lload_n 0, 1) := dk_30 (dk_at dksX5_wordOf_0 20 rfl rfl)
theorem dX5_wordOf_21 : decode cX5_wordOf 21 = .ok (.ldc2_w 129, 3) := dk_20 0 129 (dk_at dksX5_wordOf_0 21 rfl rfl)
theorem dX5_wordOf_24 : decode cX5_wordOf 24 = .ok (.lcmp, 1) := dk_148 (dk_at dksX5_wordOf_1 0 rfl rfl)
theorem dX5_wordOf_25 : decode cX5_wordOf 25 = .ok (.ifCond .ne 5, 3) := dk_154 0 5 (dk_at dksX5_wordOf_1 1 rfl rfl)
theorem dX5_wordOf_28 : decode cX5_wordOf 28 = .ok (.iconst 2, 1) := dk_5 (dk_at dksX5_wordOf_1 4 rfl rfl)
theorem dX5_wordOf_29 : decode cX5_wordOf 29 = .ok (.ireturn, 1) := dk_172 (dk_at dksX5_wordOf_1 5 rfl rfl)
theorem dX5_wordOf_30 : decode cX5_wordOf 30 = .ok (.lload_n 0, 1) := dk_30 (dk_at dksX5_wordOf_1 6 rfl rfl)
theorem dX5_wordOf_31 : decode cX5_wordOf 31 = .ok (.ldc2_w 131, 3) := dk_20 0 131 (dk_at dksX5_wordOf_1 7 rfl rfl)
theorem dX5_wordOf_34 : decode cX5_wordOf 34 = .ok (.lcmp, 1) := dk_148 (dk_at dksX5_wordOf_1 10 rfl rfl)
theorem dX5_wordOf_35 : decode cX5_wordOf 35 = .ok (.ifCond .ne 5, 3) := dk_154 0 5 (dk_at dksX5_wordOf_1 11 rfl rfl)
theorem dX5_wordOf_38 : decode cX5_wordOf 38 = .ok (.iconst 3, 1) := dk_6 (dk_at dksX5_wordOf_1 14 rfl rfl)
theorem dX5_wordOf_39 : decode cX5_wordOf 39 = .ok (.ireturn, 1) := dk_172 (dk_at dksX5_wordOf_1 15 rfl rfl)
theorem dX5_wordOf_40 : decode cX5_wordOf 40 = .ok (.lload_n 0, 1) := dk_30 (dk_at dksX5_wordOf_1 16 rfl rfl)
theorem dX5_wordOf_41 : decode cX5_wordOf 41 = .ok (.ldc2_w 133, 3) := dk_20 0 133 (dk_at dksX5_wordOf_1 17 rfl rfl)
theorem dX5_wordOf_44 : decode cX5_wordOf 44 = .ok (.lcmp, 1) := dk_148 (dk_at dksX5_wordOf_1 20 rfl rfl)
theorem dX5_wordOf_45 : decode cX5_wordOf 45 = .ok (.ifCond .ne 5, 3) := dk_154 0 5 (dk_at dksX5_wordOf_1 21 rfl rfl)
theorem dX5_wordOf_48 : decode cX5_wordOf 48 = .ok (.iconst 4, 1) := dk_7 (dk_at dksX5_wordOf_2 0 rfl rfl)
theorem dX5_wordOf_49 : decode cX5_wordOf 49 = .ok (.ireturn, 1) := dk_172 (dk_at dksX5_wordOf_2 1 rfl rfl)
theorem dX5_wordOf_50 : decode cX5_wordOf 50 = .ok (.lload_n 0, 1) := dk_30 (dk_at dksX5_wordOf_2 2 rfl rfl)
theorem dX5_wordOf_51 : decode cX5_wordOf 51 = .ok (.ldc2_w 135, 3) := dk_20 0 135 (dk_at dksX5_wordOf_2 3 rfl rfl)
theorem dX5_wordOf_54 : decode cX5_wordOf 54 = .ok (.lcmp, 1) := dk_148 (dk_at dksX5_wordOf_2 6 rfl rfl)
theorem dX5_wordOf_55 : decode cX5_wordOf 55 = .ok (.ifCond .ne 5, 3) := dk_154 0 5 (dk_at dksX5_wordOf_2 7 rfl rfl)
theorem dX5_wordOf_58 : decode cX5_wordOf 58 = .ok (.iconst 5, 1) := dk_8 (dk_at dksX5_wordOf_2 10 rfl rfl)
theorem dX5_wordOf_59 : decode cX5_wordOf 59 = .ok (.ireturn, 1) := dk_172 (dk_at dksX5_wordOf_2 11 rfl rfl)
theorem dX5_wordOf_60 : decode cX5_wordOf 60 = .ok (.lload_n 0, 1) := dk_30 (dk_at dksX5_wordOf_2 12 rfl rfl)
theorem dX5_wordOf_61 : decode cX5_wordOf 61 = .ok (.ldc2_w 137, 3) := dk_20 0 137 (dk_at dksX5_wordOf_2 13 rfl rfl)
theorem dX5_wordOf_64 : decode cX5_wordOf 64 = .ok (.lcmp, 1) := dk_148 (dk_at dksX5_wordOf_2 16 rfl rfl)
theorem dX5_wordOf_65 : decode cX5_wordOf 65 = .ok (.ifCond .ne 6, 3) := dk_154 0 6 (dk_at dksX5_wordOf_2 17 rfl rfl)
theorem dX5_wordOf_68 : decode cX5_wordOf 68 = .ok (.bipush 6, 2) := dk_16 6 (dk_at dksX5_wordOf_2 20 rfl rfl)
theorem dX5_wordOf_70 : decode cX5_wordOf 70 = .ok (.ireturn, 1) := dk_172 (dk_at dksX5_wordOf_2 22 rfl rfl)
theorem dX5_wordOf_71 : decode cX5_wordOf 71 = .ok (.lload_n 0, 1) := dk_30 (dk_at dksX5_wordOf_2 23 rfl rfl)
theorem dX5_wordOf_72 : decode cX5_wordOf 72 = .ok (.ldc2_w 139, 3) := dk_20 0 139 (dk_at dksX5_wordOf_3 0 rfl rfl)
theorem dX5_wordOf_75 : decode cX5_wordOf 75 = .ok (.lcmp, 1) := dk_148 (dk_at dksX5_wordOf_3 3 rfl rfl)
theorem dX5_wordOf_76 : decode cX5_wordOf 76 = .ok (.ifCond .ne 6, 3) := dk_154 0 6 (dk_at dksX5_wordOf_3 4 rfl rfl)
theorem dX5_wordOf_79 : decode cX5_wordOf 79 = .ok (.bipush 7, 2) := dk_16 7 (dk_at dksX5_wordOf_3 7 rfl rfl)
theorem dX5_wordOf_81 : decode cX5_wordOf 81 = .ok (.ireturn, 1) := dk_172 (dk_at dksX5_wordOf_3 9 rfl rfl)
theorem dX5_wordOf_82 : decode cX5_wordOf 82 = .ok (.lload_n 0, 1) := dk_30 (dk_at dksX5_wordOf_3 10 rfl rfl)
theorem dX5_wordOf_83 : decode cX5_wordOf 83 = .ok (.ldc2_w 141, 3) := dk_20 0 141 (dk_at dksX5_wordOf_3 11 rfl rfl)
theorem dX5_wordOf_86 : decode cX5_wordOf 86 = .ok (.lcmp, 1) := dk_148 (dk_at dksX5_wordOf_3 14 rfl rfl)
theorem dX5_wordOf_87 : decode cX5_wordOf 87 = .ok (.ifCond .ne 6, 3) := dk_154 0 6 (dk_at dksX5_wordOf_3 15 rfl rfl)
theorem dX5_wordOf_90 : decode cX5_wordOf 90 = .ok (.bipush 8, 2) := dk_16 8 (dk_at dksX5_wordOf_3 18 rfl rfl)
theorem dX5_wordOf_92 : decode cX5_wordOf 92 = .ok (.ireturn, 1) := dk_172 (dk_at dksX5_wordOf_3 20 rfl rfl)
theorem dX5_wordOf_93 : decode cX5_wordOf 93 = .ok (.lload_n 0, 1) := dk_30 (dk_at dksX5_wordOf_3 21 rfl rfl)
theorem dX5_wordOf_94 : decode cX5_wordOf 94 = .ok (.ldc2_w 143, 3) := dk_20 0 143 (dk_at dksX5_wordOf_4 0 rfl rfl)
theorem dX5_wordOf_97 : decode cX5_wordOf 97 = .ok (.lcmp, 1) := dk_148 (dk_at dksX5_wordOf_4 3 rfl rfl)
theorem dX5_wordOf_98 : decode cX5_wordOf 98 = .ok (.ifCond .ne 6, 3) := dk_154 0 6 (dk_at dksX5_wordOf_4 4 rfl rfl)
theorem dX5_wordOf_101 : decode cX5_wordOf 101 = .ok (.bipush 9, 2) := dk_16 9 (dk_at dksX5_wordOf_4 7 rfl rfl)
theorem dX5_wordOf_103 : decode cX5_wordOf 103 = .ok (.ireturn, 1) := dk_172 (dk_at dksX5_wordOf_4 9 rfl rfl)
theorem dX5_wordOf_104 : decode cX5_wordOf 104 = .ok (.lload_n 0, 1) := dk_30 (dk_at dksX5_wordOf_4 10 rfl rfl)
theorem dX5_wordOf_105 : decode cX5_wordOf 105 = .ok (.ldc2_w 145, 3) := dk_20 0 145 (dk_at dksX5_wordOf_4 11 rfl rfl)
theorem dX5_wordOf_108 : decode cX5_wordOf 108 = .ok (.lcmp, 1) := dk_148 (dk_at dksX5_wordOf_4 14 rfl rfl)
theorem dX5_wordOf_109 : decode cX5_wordOf 109 = .ok (.ifCond .ne 6, 3) := dk_154 0 6 (dk_at dksX5_wordOf_4 15 rfl rfl)
theorem dX5_wordOf_112 : decode cX5_wordOf 112 = .ok (.bipush 10, 2) := dk_16 10 (dk_at dksX5_wordOf_4 18 rfl rfl)
theorem dX5_wordOf_114 : decode cX5_wordOf 114 = .ok (.ireturn, 1) := dk_172 (dk_at dksX5_wordOf_4 20 rfl rfl)
theorem dX5_wordOf_115 : decode cX5_wordOf 115 = .ok (.lload_n 0, 1) := dk_30 (dk_at dksX5_wordOf_4 21 rfl rfl)
theorem dX5_wordOf_116 : decode cX5_wordOf 116 = .ok (.ldc2_w 147, 3) := dk_20 0 147 (dk_at dksX5_wordOf_5 0 rfl rfl)
theorem dX5_wordOf_119 : decode cX5_wordOf 119 = .ok (.lcmp, 1) := dk_148 (dk_at dksX5_wordOf_5 3 rfl rfl)
theorem dX5_wordOf_120 : decode cX5_wordOf 120 = .ok (.ifCond .ne 6, 3) := dk_154 0 6 (dk_at dksX5_wordOf_5 4 rfl rfl)
theorem dX5_wordOf_123 : decode cX5_wordOf 123 = .ok (.bipush 11, 2) := dk_16 11 (dk_at dksX5_wordOf_5 7 rfl rfl)
theorem dX5_wordOf_125 : decode cX5_wordOf 125 = .ok (.ireturn, 1) := dk_172 (dk_at dksX5_wordOf_5 9 rfl rfl)
theorem dX5_wordOf_126 : decode cX5_wordOf 126 = .ok (.lload_n 0, 1) := dk_30 (dk_at dksX5_wordOf_5 10 rfl rfl)
theorem dX5_wordOf_127 : decode cX5_wordOf 127 = .ok (.ldc2_w 149, 3) := dk_20 0 149 (dk_at dksX5_wordOf_5 11 rfl rfl)
theorem dX5_wordOf_130 : decode cX5_wordOf 130 = .ok (.lcmp, 1) := dk_148 (dk_at dksX5_wordOf_5 14 rfl rfl)
theorem dX5_wordOf_131 : decode cX5_wordOf 131 = .ok (.ifCond .ne 6, 3) := dk_154 0 6 (dk_at dksX5_wordOf_5 15 rfl rfl)
theorem dX5_wordOf_134 : decode cX5_wordOf 134 = .ok (.bipush 12, 2) := dk_16 12 (dk_at dksX5_wordOf_5 18 rfl rfl)
theorem dX5_wordOf_136 : decode cX5_wordOf 136 = .ok (.ireturn, 1) := dk_172 (dk_at dksX5_wordOf_5 20 rfl rfl)
theorem dX5_wordOf_137 : decode cX5_wordOf 137 = .ok (.lload_n 0, 1) := dk_30 (dk_at dksX5_wordOf_5 21 rfl rfl)
theorem dX5_wordOf_138 : decode cX5_wordOf 138 = .ok (.ldc2_w 151, 3) := dk_20 0 151 (dk_at dksX5_wordOf_6 0 rfl rfl)
theorem dX5_wordOf_141 : decode cX5_wordOf 141 = .ok (.lcmp, 1) := dk_148 (dk_at dksX5_wordOf_6 3 rfl rfl)
theorem dX5_wordOf_142 : decode cX5_wordOf 142 = .ok (.ifCond .ne 6, 3) := dk_154 0 6 (dk_at dksX5_wordOf_6 4 rfl rfl)
theorem dX5_wordOf_145 : decode cX5_wordOf 145 = .ok (.bipush 13, 2) := dk_16 13 (dk_at dksX5_wordOf_6 7 rfl rfl)
theorem dX5_wordOf_147 : decode cX5_wordOf 147 = .ok (.ireturn, 1) := dk_172 (dk_at dksX5_wordOf_6 9 rfl rfl)
theorem dX5_wordOf_148 : decode cX5_wordOf 148 = .ok (.lload_n 0, 1) := dk_30 (dk_at dksX5_wordOf_6 10 rfl rfl)
theorem dX5_wordOf_149 : decode cX5_wordOf 149 = .ok (.ldc2_w 153, 3) := dk_20 0 153 (dk_at dksX5_wordOf_6 11 rfl rfl)
theorem dX5_wordOf_152 : decode cX5_wordOf 152 = .ok (.lcmp, 1) := dk_148 (dk_at dksX5_wordOf_6 14 rfl rfl)
theorem dX5_wordOf_153 : decode cX5_wordOf 153 = .ok (.ifCond .ne 6, 3) := dk_154 0 6 (dk_at dksX5_wordOf_6 15 rfl rfl)
theorem dX5_wordOf_156 : decode cX5_wordOf 156 = .ok (.bipush 14, 2) := dk_16 14 (dk_at dksX5_wordOf_6 18 rfl rfl)
theorem dX5_wordOf_158 : decode cX5_wordOf 158 = .ok (.ireturn, 1) := dk_172 (dk_at dksX5_wordOf_6 20 rfl rfl)
theorem dX5_wordOf_159 : decode cX5_wordOf 159 = .ok (.lload_n 0, 1) := dk_30 (dk_at dksX5_wordOf_6 21 rfl rfl)
theorem dX5_wordOf_160 : decode cX5_wordOf 160 = .ok (.ldc2_w 155, 3) := dk_20 0 155 (dk_at dksX5_wordOf_7 0 rfl rfl)
theorem dX5_wordOf_163 : decode cX5_wordOf 163 = .ok (.lcmp, 1) := dk_148 (dk_at dksX5_wordOf_7 3 rfl rfl)
theorem dX5_wordOf_164 : decode cX5_wordOf 164 = .ok (.ifCond .ne 6, 3) := dk_154 0 6 (dk_at dksX5_wordOf_7 4 rfl rfl)
theorem dX5_wordOf_167 : decode cX5_wordOf 167 = .ok (.bipush 15, 2) := dk_16 15 (dk_at dksX5_wordOf_7 7 rfl rfl)
theorem dX5_wordOf_169 : decode cX5_wordOf 169 = .ok (.ireturn, 1) := dk_172 (dk_at dksX5_wordOf_7 9 rfl rfl)
theorem dX5_wordOf_170 : decode cX5_wordOf 170 = .ok (.lload_n 0, 1) := dk_30 (dk_at dksX5_wordOf_7 10 rfl rfl)
theorem dX5_wordOf_171 : decode cX5_wordOf 171 = .ok (.ldc2_w 157, 3) := dk_20 0 157 (dk_at dksX5_wordOf_7 11 rfl rfl)
theorem dX5_wordOf_174 : decode cX5_wordOf 174 = .ok (.lcmp, 1) := dk_148 (dk_at dksX5_wordOf_7 14 rfl rfl)
theorem dX5_wordOf_175 : decode cX5_wordOf 175 = .ok (.ifCond .ne 6, 3) := dk_154 0 6 (dk_at dksX5_wordOf_7 15 rfl rfl)
theorem dX5_wordOf_178 : decode cX5_wordOf 178 = .ok (.bipush 16, 2) := dk_16 16 (dk_at dksX5_wordOf_7 18 rfl rfl)
theorem dX5_wordOf_180 : decode cX5_wordOf 180 = .ok (.ireturn, 1) := dk_172 (dk_at dksX5_wordOf_7 20 rfl rfl)
theorem dX5_wordOf_181 : decode cX5_wordOf 181 = .ok (.lload_n 0, 1) := dk_30 (dk_at dksX5_wordOf_7 21 rfl rfl)
theorem dX5_wordOf_182 : decode cX5_wordOf 182 = .ok (.ldc2_w 159, 3) := dk_20 0 159 (dk_at dksX5_wordOf_8 0 rfl rfl)
theorem dX5_wordOf_185 : decode cX5_wordOf 185 = .ok (.lcmp, 1) := dk_148 (dk_at dksX5_wordOf_8 3 rfl rfl)
theorem dX5_wordOf_186 : decode cX5_wordOf 186 = .ok (.ifCond .ne 6, 3) := dk_154 0 6 (dk_at dksX5_wordOf_8 4 rfl rfl)
theorem dX5_wordOf_189 : decode cX5_wordOf 189 = .ok (.bipush 17, 2) := dk_16 17 (dk_at dksX5_wordOf_8 7 rfl rfl)
theorem dX5_wordOf_191 : decode cX5_wordOf 191 = .ok (.ireturn, 1) := dk_172 (dk_at dksX5_wordOf_8 9 rfl rfl)
theorem dX5_wordOf_192 : decode cX5_wordOf 192 = .ok (.lload_n 0, 1) := dk_30 (dk_at dksX5_wordOf_8 10 rfl rfl)
theorem dX5_wordOf_193 : decode cX5_wordOf 193 = .ok (.ldc2_w 161, 3) := dk_20 0 161 (dk_at dksX5_wordOf_8 11 rfl rfl)
theorem dX5_wordOf_196 : decode cX5_wordOf 196 = .ok (.lcmp, 1) := dk_148 (dk_at dksX5_wordOf_8 14 rfl rfl)
theorem dX5_wordOf_197 : decode cX5_wordOf 197 = .ok (.ifCond .ne 6, 3) := dk_154 0 6 (dk_at dksX5_wordOf_8 15 rfl rfl)
theorem dX5_wordOf_200 : decode cX5_wordOf 200 = .ok (.bipush 18, 2) := dk_16 18 (dk_at dksX5_wordOf_8 18 rfl rfl)
theorem dX5_wordOf_202 : decode cX5_wordOf 202 = .ok (.ireturn, 1) := dk_172 (dk_at dksX5_wordOf_8 20 rfl rfl)
theorem dX5_wordOf_203 : decode cX5_wordOf 203 = .ok (.lload_n 0, 1) := dk_30 (dk_at dksX5_wordOf_8 21 rfl rfl)
theorem dX5_wordOf_204 : decode cX5_wordOf 204 = .ok (.ldc2_w 163, 3) := dk_20 0 163 (dk_at dksX5_wordOf_9 0 rfl rfl)
theorem dX5_wordOf_207 : decode cX5_wordOf 207 = .ok (.lcmp, 1) := dk_148 (dk_at dksX5_wordOf_9 3 rfl rfl)
theorem dX5_wordOf_208 : decode cX5_wordOf 208 = .ok (.ifCond .ne 6, 3) := dk_154 0 6 (dk_at dksX5_wordOf_9 4 rfl rfl)
theorem dX5_wordOf_211 : decode cX5_wordOf 211 = .ok (.bipush 19, 2) := dk_16 19 (dk_at dksX5_wordOf_9 7 rfl rfl)
theorem dX5_wordOf_213 : decode cX5_wordOf 213 = .ok (.ireturn, 1) := dk_172 (dk_at dksX5_wordOf_9 9 rfl rfl)
theorem dX5_wordOf_214 : decode cX5_wordOf 214 = .ok (.lload_n 0, 1) := dk_30 (dk_at dksX5_wordOf_9 10 rfl rfl)
theorem dX5_wordOf_215 : decode cX5_wordOf 215 = .ok (.ldc2_w 165, 3) := dk_20 0 165 (dk_at dksX5_wordOf_9 11 rfl rfl)
theorem dX5_wordOf_218 : decode cX5_wordOf 218 = .ok (.lcmp, 1) := dk_148 (dk_at dksX5_wordOf_9 14 rfl rfl)
theorem dX5_wordOf_219 : decode cX5_wordOf 219 = .ok (.ifCond .ne 6, 3) := dk_154 0 6 (dk_at dksX5_wordOf_9 15 rfl rfl)
theorem dX5_wordOf_222 : decode cX5_wordOf 222 = .ok (.bipush 20, 2) := dk_16 20 (dk_at dksX5_wordOf_9 18 rfl rfl)
theorem dX5_wordOf_224 : decode cX5_wordOf 224 = .ok (.ireturn, 1) := dk_172 (dk_at dksX5_wordOf_9 20 rfl rfl)
theorem dX5_wordOf_225 : decode cX5_wordOf 225 = .ok (.lload_n 0, 1) := dk_30 (dk_at dksX5_wordOf_9 21 rfl rfl)
theorem dX5_wordOf_226 : decode cX5_wordOf 226 = .ok (.ldc2_w 167, 3) := dk_20 0 167 (dk_at dksX5_wordOf_10 0 rfl rfl)
theorem dX5_wordOf_229 : decode cX5_wordOf 229 = .ok (.lcmp, 1) := dk_148 (dk_at dksX5_wordOf_10 3 rfl rfl)
theorem dX5_wordOf_230 : decode cX5_wordOf 230 = .ok (.ifCond .ne 6, 3) := dk_154 0 6 (dk_at dksX5_wordOf_10 4 rfl rfl)
theorem dX5_wordOf_233 : decode cX5_wordOf 233 = .ok (.bipush 21, 2) := dk_16 21 (dk_at dksX5_wordOf_10 7 rfl rfl)
theorem dX5_wordOf_235 : decode cX5_wordOf 235 = .ok (.ireturn, 1) := dk_172 (dk_at dksX5_wordOf_10 9 rfl rfl)
theorem dX5_wordOf_236 : decode cX5_wordOf 236 = .ok (.lload_n 0, 1) := dk_30 (dk_at dksX5_wordOf_10 10 rfl rfl)
theorem dX5_wordOf_237 : decode cX5_wordOf 237 = .ok (.ldc2_w 169, 3) := dk_20 0 169 (dk_at dksX5_wordOf_10 11 rfl rfl)
theorem dX5_wordOf_240 : decode cX5_wordOf 240 = .ok (.lcmp, 1) := dk_148 (dk_at dksX5_wordOf_10 14 rfl rfl)
theorem dX5_wordOf_241 : decode cX5_wordOf 241 = .ok (.ifCond .ne 6, 3) := dk_154 0 6 (dk_at dksX5_wordOf_10 15 rfl rfl)
theorem dX5_wordOf_244 : decode cX5_wordOf 244 = .ok (.bipush 22, 2) := dk_16 22 (dk_at dksX5_wordOf_10 18 rfl rfl)
theorem dX5_wordOf_246 : decode cX5_wordOf 246 = .ok (.ireturn, 1) := dk_172 (dk_at dksX5_wordOf_10 20 rfl rfl)
theorem dX5_wordOf_247 : decode cX5_wordOf 247 = .ok (.lload_n 0, 1) := dk_30 (dk_at dksX5_wordOf_10 21 rfl rfl)
theorem dX5_wordOf_248 : decode cX5_wordOf 248 = .ok (.ldc2_w 171, 3) := dk_20 0 171 (dk_at dksX5_wordOf_11 0 rfl rfl)
theorem dX5_wordOf_251 : decode cX5_wordOf 251 = .ok (.lcmp, 1) := dk_148 (dk_at dksX5_wordOf_11 3 rfl rfl)
theorem dX5_wordOf_252 : decode cX5_wordOf 252 = .ok (.ifCond .ne 6, 3) := dk_154 0 6 (dk_at dksX5_wordOf_11 4 rfl rfl)
theorem dX5_wordOf_255 : decode cX5_wordOf 255 = .ok (.bipush 23, 2) := dk_16 23 (dk_at dksX5_wordOf_11 7 rfl rfl)
theorem dX5_wordOf_257 : decode cX5_wordOf 257 = .ok (.ireturn, 1) := dk_172 (dk_at dksX5_wordOf_11 9 rfl rfl)
theorem dX5_wordOf_258 : decode cX5_wordOf 258 = .ok (.iconst (-1), 1) := dk_2 (dk_at dksX5_wordOf_11 10 rfl rfl)
theorem dX5_wordOf_259 : decode cX5_wordOf 259 = .ok (.ireturn, 1) := dk_172 (dk_at dksX5_wordOf_11 11 rfl rfl)
abbrev cX5_asks : ByteArray := prog_23_method_27_code
def yX5_asks : MethodName := ⟨RX5, "asks", "()V"⟩
def dkwX5_asks_1 : List UInt8 := [4, 181, 0, 242, 177]
abbrev dktX5_asks_1 : List UInt8 := dkwX5_asks_1 ++ []
def dkwX5_asks_0 : List UInt8 := [42, 16, 11, 182, 0, 236, 153, 0, 12, 42, 6, 182, 0, 239, 60, 167, 0, 13, 42, 7, 182, 0, 216, 42]
abbrev dktX5_asks_0 : List UInt8 := dkwX5_asks_0 ++ dktX5_asks_1
theorem dksX5_asks_0 : cX5_asks.data.toList.drop 0 = dktX5_asks_0 := by decide +kernel
theorem dksX5_asks_1 : cX5_asks.data.toList.drop 24 = dktX5_asks_1 := dk_seg dksX5_asks_0 24 rfl rfl
theorem dX5_asks_0 : decode cX5_asks 0 = .ok (.aload_n 0, 1) := dk_42 (dk_at dksX5_asks_0 0 rfl rfl)
theorem dX5_asks_1 : decode cX5_asks 1 = .ok (.bipush 11, 2) := dk_16 11 (dk_at dksX5_asks_0 1 rfl rfl)
theorem dX5_asks_3 : decode cX5_asks 3 = .ok (.invokevirtual 236, 3) := dk_182 0 236 (dk_at dksX5_asks_0 3 rfl rfl)
theorem dX5_asks_6 : decode cX5_asks 6 = .ok (.ifCond .eq 12, 3) := dk_153 0 12 (dk_at dksX5_asks_0 6 rfl rfl)
theorem dX5_asks_9 : decode cX5_asks 9 = .ok (.aload_n 0, 1) := dk_42 (dk_at dksX5_asks_0 9 rfl rfl)
theorem dX5_asks_10 : decode cX5_asks 10 = .ok (.iconst 3, 1) := dk_6 (dk_at dksX5_asks_0 10 rfl rfl)
theorem dX5_asks_11 : decode cX5_asks 11 = .ok (.invokevirtual 239, 3) := dk_182 0 239 (dk_at dksX5_asks_0 11 rfl rfl)
theorem dX5_asks_14 : decode cX5_asks 14 = .ok (.istore_n 1, 1) := dk_60 (dk_at dksX5_asks_0 14 rfl rfl)
theorem dX5_asks_15 : decode cX5_asks 15 = .ok (.goto 13, 3) := dk_167 0 13 (dk_at dksX5_asks_0 15 rfl rfl)
theorem dX5_asks_18 : decode cX5_asks 18 = .ok (.aload_n 0, 1) := dk_42 (dk_at dksX5_asks_0 18 rfl rfl)
theorem dX5_asks_19 : decode cX5_asks 19 = .ok (.iconst 4, 1) := dk_7 (dk_at dksX5_asks_0 19 rfl rfl)
theorem dX5_asks_20 : decode cX5_asks 20 = .ok (.invokevirtual 216, 3) := dk_182 0 216 (dk_at dksX5_asks_0 20 rfl rfl)
theorem dX5_asks_23 : decode cX5_asks 23 = .ok (.aload_n 0, 1) := dk_42 (dk_at dksX5_asks_0 23 rfl rfl)
theorem dX5_asks_24 : decode cX5_asks 24 = .ok (.iconst 1, 1) := dk_4 (dk_at dksX5_asks_1 0 rfl rfl)
theorem dX5_asks_25 : decode cX5_asks 25 = .ok (.putfield 242, 3) := dk_181 0 242 (dk_at dksX5_asks_1 1 rfl rfl)
theorem dX5_asks_28 : decode cX5_asks 28 = .ok (.return_, 1) := dk_177 (dk_at dksX5_asks_1 4 rfl rfl)
abbrev cX5_isWord : ByteArray := prog_23_method_18_code
def yX5_isWord : MethodName := ⟨RX5, "isWord", "(I)Z"⟩
def dkwX5_isWord_0 : List UInt8 := [42, 180, 0, 182, 4, 160, 0, 15, 42, 180, 0, 194, 27, 160, 0, 7, 4, 167, 0, 4, 3, 172]
abbrev dktX5_isWord_0 : List UInt8 := dkwX5_isWord_0 ++ []
theorem dksX5_isWord_0 : cX5_isWord.data.toList.drop 0 = dktX5_isWord_0 := by decide +kernel
theorem dX5_isWord_0 : decode cX5_isWord 0 = .ok (.aload_n 0, 1) := dk_42 (dk_at dksX5_isWord_0 0 rfl rfl)
theorem dX5_isWord_1 : decode cX5_isWord 1 = .ok (.getfield 182, 3) := dk_180 0 182 (dk_at dksX5_isWord_0 1 rfl rfl)
theorem dX5_isWord_4 : decode cX5_isWord 4 = .ok (.iconst 1, 1) := dk_4 (dk_at dksX5_isWord_0 4 rfl rfl)
theorem dX5_isWord_5 : decode cX5_isWord 5 = .ok (.if_icmp .ne 15, 3) := dk_160 0 15 (dk_at dksX5_isWord_0 5 rfl rfl)
theorem dX5_isWord_8 : decode cX5_isWord 8 = .ok (.aload_n 0, 1) := dk_42 (dk_at dksX5_isWord_0 8 rfl rfl)
theorem dX5_isWord_9 : decode cX5_isWord 9 = .ok (.getfield 194, 3) := dk_180 0 194 (dk_at dksX5_isWord_0 9 rfl rfl)
theorem dX5_isWord_12 : decode cX5_isWord 12 = .ok (.iload_n 1, 1) := dk_27 (dk_at dksX5_isWord_0 12 rfl rfl)
theorem dX5_isWord_13 : decode cX5_isWord 13 = .ok (.if_icmp .ne 7, 3) := dk_160 0 7 (dk_at dksX5_isWord_0 13 rfl rfl)
theorem dX5_isWord_16 : decode cX5_isWord 16 = .ok (.iconst 1, 1) := dk_4 (dk_at dksX5_isWord_0 16 rfl rfl)
theorem dX5_isWord_17 : decode cX5_isWord 17 = .ok (.goto 4, 3) := dk_167 0 4 (dk_at dksX5_isWord_0 17 rfl rfl)
theorem dX5_isWord_20 : decode cX5_isWord 20 = .ok (.iconst 0, 1) := dk_3 (dk_at dksX5_isWord_0 20 rfl rfl)
theorem dX5_isWord_21 : decode cX5_isWord 21 = .ok (.ireturn, 1) := dk_172 (dk_at dksX5_isWord_0 21 rfl rfl)
abbrev cX5_opensSign : ByteArray := prog_23_method_23_code
def yX5_opensSign : MethodName := ⟨RX5, "opensSign", "(I)Z"⟩
def dkwX5_opensSign_1 : List UInt8 := [181, 0, 210, 42, 27, 182, 0, 216, 42, 182, 0, 219, 4, 172]
abbrev dktX5_opensSign_1 : List UInt8 := dkwX5_opensSign_1 ++ []
def dkwX5_opensSign_0 : List UInt8 := [42, 180, 0, 210, 16, 8, 160, 0, 10, 42, 6, 182, 0, 213, 3, 172, 42, 89, 180, 0, 210, 4, 96]
abbrev dktX5_opensSign_0 : List UInt8 := dkwX5_opensSign_0 ++ dktX5_opensSign_1
theorem dksX5_opensSign_0 : cX5_opensSign.data.toList.drop 0 = dktX5_opensSign_0 := by decide +kernel
theorem dksX5_opensSign_1 : cX5_opensSign.data.toList.drop 23 = dktX5_opensSign_1 := dk_seg dksX5_opensSign_0 23 rfl rfl
theorem dX5_opensSign_0 : decode cX5_opensSign 0 = .ok (.aload_n 0, 1) := dk_42 (dk_at dksX5_opensSign_0 0 rfl rfl)
theorem dX5_opensSign_1 : decode cX5_opensSign 1 = .ok (.getfield 210, 3) := dk_180 0 210 (dk_at dksX5_opensSign_0 1 rfl rfl)
theorem dX5_opensSign_4 : decode cX5_opensSign 4 = .ok (.bipush 8, 2) := dk_16 8 (dk_at dksX5_opensSign_0 4 rfl rfl)
theorem dX5_opensSign_6 : decode cX5_opensSign 6 = .ok (.if_icmp .ne 10, 3) := dk_160 0 10 (dk_at dksX5_opensSign_0 6 rfl rfl)
theorem dX5_opensSign_9 : decode cX5_opensSign 9 = .ok (.aload_n 0, 1) := dk_42 (dk_at dksX5_opensSign_0 9 rfl rfl)
theorem dX5_opensSign_10 : decode cX5_opensSign 10 = .ok (.iconst 3, 1) := dk_6 (dk_at dksX5_opensSign_0 10 rfl rfl)
theorem dX5_opensSign_11 : decode cX5_opensSign 11 = .ok (.invokevirtual 213, 3) := dk_182 0 213 (dk_at dksX5_opensSign_0 11 rfl rfl)
theorem dX5_opensSign_14 : decode cX5_opensSign 14 = .ok (.iconst 0, 1) := dk_3 (dk_at dksX5_opensSign_0 14 rfl rfl)
theorem dX5_opensSign_15 : decode cX5_opensSign 15 = .ok (.ireturn, 1) := dk_172 (dk_at dksX5_opensSign_0 15 rfl rfl)
theorem dX5_opensSign_16 : decode cX5_opensSign 16 = .ok (.aload_n 0, 1) := dk_42 (dk_at dksX5_opensSign_0 16 rfl rfl)
theorem dX5_opensSign_17 : decode cX5_opensSign 17 = .ok (.dup, 1) := dk_89 (dk_at dksX5_opensSign_0 17 rfl rfl)
theorem dX5_opensSign_18 : decode cX5_opensSign 18 = .ok (.getfield 210, 3) := dk_180 0 210 (dk_at dksX5_opensSign_0 18 rfl rfl)
theorem dX5_opensSign_21 : decode cX5_opensSign 21 = .ok (.iconst 1, 1) := dk_4 (dk_at dksX5_opensSign_0 21 rfl rfl)
theorem dX5_opensSign_22 : decode cX5_opensSign 22 = .ok (.iadd, 1) := dk_96 (dk_at dksX5_opensSign_0 22 rfl rfl)
theorem dX5_opensSign_23 : decode cX5_opensSign 23 = .ok (.putfield 210, 3) := dk_181 0 210 (dk_at dksX5_opensSign_1 0 rfl rfl)
theorem dX5_opensSign_26 : decode cX5_opensSign 26 = .ok (.aload_n 0, 1) := dk_42 (dk_at dksX5_opensSign_1 3 rfl rfl)
theorem dX5_opensSign_27 : decode cX5_opensSign 27 = .ok (.iload_n 1, 1) := dk_27 (dk_at dksX5_opensSign_1 4 rfl rfl)
theorem dX5_opensSign_28 : decode cX5_opensSign 28 = .ok (.invokevirtual 216, 3) := dk_182 0 216 (dk_at dksX5_opensSign_1 5 rfl rfl)
theorem dX5_opensSign_31 : decode cX5_opensSign 31 = .ok (.aload_n 0, 1) := dk_42 (dk_at dksX5_opensSign_1 8 rfl rfl)
theorem dX5_opensSign_32 : decode cX5_opensSign 32 = .ok (.invokevirtual 219, 3) := dk_182 0 219 (dk_at dksX5_opensSign_1 9 rfl rfl)
theorem dX5_opensSign_35 : decode cX5_opensSign 35 = .ok (.iconst 1, 1) := dk_4 (dk_at dksX5_opensSign_1 12 rfl rfl)
theorem dX5_opensSign_36 : decode cX5_opensSign 36 = .ok (.ireturn, 1) := dk_172 (dk_at dksX5_opensSign_1 13 rfl rfl)
abbrev cX5_errs : ByteArray := prog_23_method_19_code
def yX5_errs : MethodName := ⟨RX5, "errs", "(I)V"⟩
def dkwX5_errs_0 : List UInt8 := [42, 180, 0, 198, 154, 0, 16, 42, 27, 181, 0, 198, 42, 42, 180, 0, 179, 181, 0, 201, 177]
abbrev dktX5_errs_0 : List UInt8 := dkwX5_errs_0 ++ []
theorem dksX5_errs_0 : cX5_errs.data.toList.drop 0 = dktX5_errs_0 := by decide +kernel
theorem dX5_errs_0 : decode cX5_errs 0 = .ok (.aload_n 0, 1) := dk_42 (dk_at dksX5_errs_0 0 rfl rfl)
theorem dX5_errs_1 : decode cX5_errs 1 = .ok (.getfield 198, 3) := dk_180 0 198 (dk_at dksX5_errs_0 1 rfl rfl)
theorem dX5_errs_4 : decode cX5_errs 4 = .ok (.ifCond .ne 16, 3) := dk_154 0 16 (dk_at dksX5_errs_0 4 rfl rfl)
theorem dX5_errs_7 : decode cX5_errs 7 = .ok (.aload_n 0, 1) := dk_42 (dk_at dksX5_errs_0 7 rfl rfl)
theorem dX5_errs_8 : decode cX5_errs 8 = .ok (.iload_n 1, 1) := dk_27 (dk_at dksX5_errs_0 8 rfl rfl)
theorem dX5_errs_9 : decode cX5_errs 9 = .ok (.putfield 198, 3) := dk_181 0 198 (dk_at dksX5_errs_0 9 rfl rfl)
theorem dX5_errs_12 : decode cX5_errs 12 = .ok (.aload_n 0, 1) := dk_42 (dk_at dksX5_errs_0 12 rfl rfl)
theorem dX5_errs_13 : decode cX5_errs 13 = .ok (.aload_n 0, 1) := dk_42 (dk_at dksX5_errs_0 13 rfl rfl)
theorem dX5_errs_14 : decode cX5_errs 14 = .ok (.getfield 179, 3) := dk_180 0 179 (dk_at dksX5_errs_0 14 rfl rfl)
theorem dX5_errs_17 : decode cX5_errs 17 = .ok (.putfield 201, 3) := dk_181 0 201 (dk_at dksX5_errs_0 17 rfl rfl)
theorem dX5_errs_20 : decode cX5_errs 20 = .ok (.return_, 1) := dk_177 (dk_at dksX5_errs_0 20 rfl rfl)
abbrev cX5_opensFrame : ByteArray := prog_23_method_21_code
def yX5_opensFrame : MethodName := ⟨RX5, "opensFrame", "(I)V"⟩
def dkwX5_opensFrame_0 : List UInt8 := [42, 180, 0, 48, 42, 180, 0, 207, 27, 79, 42, 89, 180, 0, 207, 4, 96, 181, 0, 207, 177]
abbrev dktX5_opensFrame_0 : List UInt8 := dkwX5_opensFrame_0 ++ []
theorem dksX5_opensFrame_0 : cX5_opensFrame.data.toList.drop 0 = dktX5_opensFrame_0 := by decide +kernel
theorem dX5_opensFrame_0 : decode cX5_opensFrame 0 = .ok (.aload_n 0, 1) := dk_42 (dk_at dksX5_opensFrame_0 0 rfl rfl)
theorem dX5_opensFrame_1 : decode cX5_opensFrame 1 = .ok (.getfield 48, 3) := dk_180 0 48 (dk_at dksX5_opensFrame_0 1 rfl rfl)
theorem dX5_opensFrame_4 : decode cX5_opensFrame 4 = .ok (.aload_n 0, 1) := dk_42 (dk_at dksX5_opensFrame_0 4 rfl rfl)
theorem dX5_opensFrame_5 : decode cX5_opensFrame 5 = .ok (.getfield 207, 3) := dk_180 0 207 (dk_at dksX5_opensFrame_0 5 rfl rfl)
theorem dX5_opensFrame_8 : decode cX5_opensFrame 8 = .ok (.iload_n 1, 1) := dk_27 (dk_at dksX5_opensFrame_0 8 rfl rfl)
theorem dX5_opensFrame_9 : decode cX5_opensFrame 9 = .ok (.iastore, 1) := dk_79 (dk_at dksX5_opensFrame_0 9 rfl rfl)
theorem dX5_opensFrame_10 : decode cX5_opensFrame 10 = .ok (.aload_n 0, 1) := dk_42 (dk_at dksX5_opensFrame_0 10 rfl rfl)
theorem dX5_opensFrame_11 : decode cX5_opensFrame 11 = .ok (.dup, 1) := dk_89 (dk_at dksX5_opensFrame_0 11 rfl rfl)
theorem dX5_opensFrame_12 : decode cX5_opensFrame 12 = .ok (.getfield 207, 3) := dk_180 0 207 (dk_at dksX5_opensFrame_0 12 rfl rfl)
theorem dX5_opensFrame_15 : decode cX5_opensFrame 15 = .ok (.iconst 1, 1) := dk_4 (dk_at dksX5_opensFrame_0 15 rfl rfl)
theorem dX5_opensFrame_16 : decode cX5_opensFrame 16 = .ok (.iadd, 1) := dk_96 (dk_at dksX5_opensFrame_0 16 rfl rfl)
theorem dX5_opensFrame_17 : decode cX5_opensFrame 17 = .ok (.putfield 207, 3) := dk_181 0 207 (dk_at dksX5_opensFrame_0 17 rfl rfl)
theorem dX5_opensFrame_20 : decode cX5_opensFrame 20 = .ok (.return_, 1) := dk_177 (dk_at dksX5_opensFrame_0 20 rfl rfl)
abbrev cX5_begins : ByteArray := prog_23_method_29_code
def yX5_begins : MethodName := ⟨RX5, "begins", "()V"⟩
def dkwX5_begins_6 : List UInt8 := [60, 167, 0, 8, 42, 4, 182, 0, 213, 177]
abbrev dktX5_begins_6 : List UInt8 := dkwX5_begins_6 ++ []
def dkwX5_begins_5 : List UInt8 := [16, 6, 182, 0, 239, 60, 167, 0, 27, 42, 16, 45, 182, 0, 255, 153, 0, 13, 42, 16, 7, 182, 0, 239]
abbrev dktX5_begins_5 : List UInt8 := dkwX5_begins_5 ++ dktX5_begins_6
def dkwX5_begins_4 : List UInt8 := [182, 0, 229, 42, 182, 0, 219, 42, 182, 0, 245, 167, 0, 46, 42, 16, 40, 182, 0, 255, 153, 0, 13, 42]
abbrev dktX5_begins_4 : List UInt8 := dkwX5_begins_4 ++ dktX5_begins_5
def dkwX5_begins_3 : List UInt8 := [100, 60, 27, 42, 180, 0, 248, 184, 0, 251, 154, 0, 9, 42, 8, 182, 0, 213, 177, 42, 17, 1, 145, 27]
abbrev dktX5_begins_3 : List UInt8 := dkwX5_begins_3 ++ dktX5_begins_4
def dkwX5_begins_2 : List UInt8 := [180, 0, 182, 4, 160, 0, 58, 42, 180, 0, 194, 16, 11, 164, 0, 49, 42, 180, 0, 194, 16, 11, 100, 4]
abbrev dktX5_begins_2 : List UInt8 := dkwX5_begins_2 ++ dktX5_begins_3
def dkwX5_begins_1 : List UInt8 := [42, 17, 1, 144, 42, 180, 0, 194, 182, 0, 229, 42, 182, 0, 219, 42, 182, 0, 245, 167, 0, 109, 42]
abbrev dktX5_begins_1 : List UInt8 := dkwX5_begins_1 ++ dktX5_begins_2
def dkwX5_begins_0 : List UInt8 := [42, 180, 0, 182, 5, 160, 0, 41, 42, 180, 0, 194, 17, 39, 15, 164, 0, 9, 42, 5, 182, 0, 213, 177]
abbrev dktX5_begins_0 : List UInt8 := dkwX5_begins_0 ++ dktX5_begins_1
theorem dksX5_begins_0 : cX5_begins.data.toList.drop 0 = dktX5_begins_0 := by decide +kernel
theorem dksX5_begins_1 : cX5_begins.data.toList.drop 24 = dktX5_begins_1 := dk_seg dksX5_begins_0 24 rfl rfl
theorem dksX5_begins_2 : cX5_begins.data.toList.drop 47 = dktX5_begins_2 := dk_seg dksX5_begins_1 23 rfl rfl
theorem dksX5_begins_3 : cX5_begins.data.toList.drop 71 = dktX5_begins_3 := dk_seg dksX5_begins_2 24 rfl rfl
theorem dksX5_begins_4 : cX5_begins.data.toList.drop 95 = dktX5_begins_4 := dk_seg dksX5_begins_3 24 rfl rfl
theorem dksX5_begins_5 : cX5_begins.data.toList.drop 119 = dktX5_begins_5 := dk_seg dksX5_begins_4 24 rfl rfl
theorem dksX5_begins_6 : cX5_begins.data.toList.drop 143 = dktX5_begins_6 := dk_seg dksX5_begins_5 24 rfl rfl
theorem dX5_begins_0 : decode cX5_begins 0 = .ok (.aload_n 0, 1) := dk_42 (dk_at dksX5_begins_0 0 rfl rfl)
theorem dX5_begins_1 : decode cX5_begins 1 = .ok (.getfield 182, 3) := dk_180 0 182 (dk_at dksX5_begins_0 1 rfl rfl)
theorem dX5_begins_4 : decode cX5_begins 4 = .ok (.iconst 2, 1) := dk_5 (dk_at dksX5_begins_0 4 rfl rfl)
theorem dX5_begins_5 : decode cX5_begins 5 = .ok (.if_icmp .ne 41, 3) := dk_160 0 41 (dk_at dksX5_begins_0 5 rfl rfl)
theorem dX5_begins_8 : decode cX5_begins 8 = .ok (.aload_n 0, 1) := dk_42 (dk_at dksX5_begins_0 8 rfl rfl)
theorem dX5_begins_9 : decode cX5_begins 9 = .ok (.getfield 194, 3) := dk_180 0 194 (dk_at dksX5_begins_0 9 rfl rfl)
theorem dX5_begins_12 : decode cX5_begins 12 = .ok (.sipush 9999, 3) := dk_17 39 15 (dk_at dksX5_begins_0 12 rfl rfl)
theorem dX5_begins_15 : decode cX5_begins 15 = .ok (.if_icmp .le 9, 3) := dk_164 0 9 (dk_at dksX5_begins_0 15 rfl rfl)
theorem dX5_begins_18 : decode cX5_begins 18 = .ok (.aload_n 0, 1) := dk_42 (dk_at dksX5_begins_0 18 rfl rfl)
theorem dX5_begins_19 : decode cX5_begins 19 = .ok (.iconst 2, 1) := dk_5 (dk_at dksX5_begins_0 19 rfl rfl)
theorem dX5_begins_20 : decode cX5_begins 20 = .ok (.invokevirtual 213, 3) := dk_182 0 213 (dk_at dksX5_begins_0 20 rfl rfl)
theorem dX5_begins_23 : decode cX5_begins 23 = .ok (.return_, 1) := dk_177 (dk_at dksX5_begins_0 23 rfl rfl)
theorem dX5_begins_24 : decode cX5_begins 24 = .ok (.aload_n 0, 1) := dk_42 (dk_at dksX5_begins_1 0 rfl rfl)
theorem dX5_begins_25 : decode cX5_begins 25 = .ok (.sipush 400, 3) := dk_17 1 144 (dk_at dksX5_begins_1 1 rfl rfl)
theorem dX5_begins_28 : decode cX5_begins 28 = .ok (.aload_n 0, 1) := dk_42 (dk_at dksX5_begins_1 4 rfl rfl)
theorem dX5_begins_29 : decode cX5_begins 29 = .ok (.getfield 194, 3) := dk_180 0 194 (dk_at dksX5_begins_1 5 rfl rfl)
theorem dX5_begins_32 : decode cX5_begins 32 = .ok (.invokevirtual 229, 3) := dk_182 0 229 (dk_at dksX5_begins_1 8 rfl rfl)
theorem dX5_begins_35 : decode cX5_begins 35 = .ok (.aload_n 0, 1) := dk_42 (dk_at dksX5_begins_1 11 rfl rfl)
theorem dX5_begins_36 : decode cX5_begins 36 = .ok (.invokevirtual 219, 3) := dk_182 0 219 (dk_at dksX5_begins_1 12 rfl rfl)
theorem dX5_begins_39 : decode cX5_begins 39 = .ok (.aload_n 0, 1) := dk_42 (dk_at dksX5_begins_1 15 rfl rfl)
theorem dX5_begins_40 : decode cX5_begins 40 = .ok (.invokevirtual 245, 3) := dk_182 0 245 (dk_at dksX5_begins_1 16 rfl rfl)
theorem dX5_begins_43 : decode cX5_begins 43 = .ok (.goto 109, 3) := dk_167 0 109 (dk_at dksX5_begins_1 19 rfl rfl)
theorem dX5_begins_46 : decode cX5_begins 46 = .ok (.aload_n 0, 1) := dk_42 (dk_at dksX5_begins_1 22 rfl rfl)
theorem dX5_begins_47 : decode cX5_begins 47 = .ok (.getfield 182, 3) := dk_180 0 182 (dk_at dksX5_begins_2 0 rfl rfl)
theorem dX5_begins_50 : decode cX5_begins 50 = .ok (.iconst 1, 1) := dk_4 (dk_at dksX5_begins_2 3 rfl rfl)
theorem dX5_begins_51 : decode cX5_begins 51 = .ok (.if_icmp .ne 58, 3) := dk_160 0 58 (dk_at dksX5_begins_2 4 rfl rfl)
theorem dX5_begins_54 : decode cX5_begins 54 = .ok (.aload_n 0, 1) := dk_42 (dk_at dksX5_begins_2 7 rfl rfl)
theorem dX5_begins_55 : decode cX5_begins 55 = .ok (.getfield 194, 3) := dk_180 0 194 (dk_at dksX5_begins_2 8 rfl rfl)
theorem dX5_begins_58 : decode cX5_begins 58 = .ok (.bipush 11, 2) := dk_16 11 (dk_at dksX5_begins_2 11 rfl rfl)
theorem dX5_begins_60 : decode cX5_begins 60 = .ok (.if_icmp .le 49, 3) := dk_164 0 49 (dk_at dksX5_begins_2 13 rfl rfl)
theorem dX5_begins_63 : decode cX5_begins 63 = .ok (.aload_n 0, 1) := dk_42 (dk_at dksX5_begins_2 16 rfl rfl)
theorem dX5_begins_64 : decode cX5_begins 64 = .ok (.getfield 194, 3) := dk_180 0 194 (dk_at dksX5_begins_2 17 rfl rfl)
theorem dX5_begins_67 : decode cX5_begins 67 = .ok (.bipush 11, 2) := dk_16 11 (dk_at dksX5_begins_2 20 rfl rfl)
theorem dX5_begins_69 : decode cX5_begins 69 = .ok (.isub, 1) := dk_100 (dk_at dksX5_begins_2 22 rfl rfl)
theorem dX5_begins_70 : decode cX5_begins 70 = .ok (.iconst 1, 1) := dk_4 (dk_at dksX5_begins_2 23 rfl rfl)
theorem dX5_begins_71 : decode cX5_begins 71 = .ok (.isub, 1) := dk_100 (dk_at dksX5_begins_3 0 rfl rfl)
theorem dX5_begins_72 : decode cX5_begins 72 = .ok (.istore_n 1, 1) := dk_60 (dk_at dksX5_begins_3 1 rfl rfl)
theorem dX5_begins_73 : decode cX5_begins 73 = .ok (.iload_n 1, 1) := dk_27 (dk_at dksX5_begins_3 2 rfl rfl)
theorem dX5_begins_74 : decode cX5_begins 74 = .ok (.aload_n 0, 1) := dk_42 (dk_at dksX5_begins_3 3 rfl rfl)
theorem dX5_begins_75 : decode cX5_begins 75 = .ok (.getfield 248, 3) := dk_180 0 248 (dk_at dksX5_begins_3 4 rfl rfl)
theorem dX5_begins_78 : decode cX5_begins 78 = .ok (.invokestatic 251, 3) := dk_184 0 251 (dk_at dksX5_begins_3 7 rfl rfl)
theorem dX5_begins_81 : decode cX5_begins 81 = .ok (.ifCond .ne 9, 3) := dk_154 0 9 (dk_at dksX5_begins_3 10 rfl rfl)
theorem dX5_begins_84 : decode cX5_begins 84 = .ok (.aload_n 0, 1) := dk_42 (dk_at dksX5_begins_3 13 rfl rfl)
theorem dX5_begins_85 : decode cX5_begins 85 = .ok (.iconst 5, 1) := dk_8 (dk_at dksX5_begins_3 14 rfl rfl)
theorem dX5_begins_86 : decode cX5_begins 86 = .ok (.invokevirtual 213, 3) := dk_182 0 213 (dk_at dksX5_begins_3 15 rfl rfl)
theorem dX5_begins_89 : decode cX5_begins 89 = .ok (.return_, 1) := dk_177 (dk_at dksX5_begins_3 18 rfl rfl)
theorem dX5_begins_90 : decode cX5_begins 90 = .ok (.aload_n 0, 1) := dk_42 (dk_at dksX5_begins_3 19 rfl rfl)
theorem dX5_begins_91 : decode cX5_begins 91 = .ok (.sipush 401, 3) := dk_17 1 145 (dk_at dksX5_begins_3 20 rfl rfl)
theorem dX5_begins_94 : decode cX5_begins 94 = .ok (.iload_n 1, 1) := dk_27 (dk_at dksX5_begins_3 23 rfl rfl)
theorem dX5_begins_95 : decode cX5_begins 95 = .ok (.invokevirtual 229, 3) := dk_182 0 229 (dk_at dksX5_begins_4 0 rfl rfl)
theorem dX5_begins_98 : decode cX5_begins 98 = .ok (.aload_n 0, 1) := dk_42 (dk_at dksX5_begins_4 3 rfl rfl)
theorem dX5_begins_99 : decode cX5_begins 99 = .ok (.invokevirtual 219, 3) := dk_182 0 219 (dk_at dksX5_begins_4 4 rfl rfl)
theorem dX5_begins_102 : decode cX5_begins 102 = .ok (.aload_n 0, 1) := dk_42 (dk_at dksX5_begins_4 7 rfl rfl)
theorem dX5_begins_103 : decode cX5_begins 103 = .ok (.invokevirtual 245, 3) := dk_182 0 245 (dk_at dksX5_begins_4 8 rfl rfl)
theorem dX5_begins_106 : decode cX5_begins 106 = .ok (.goto 46, 3) := dk_167 0 46 (dk_at dksX5_begins_4 11 rfl rfl)
theorem dX5_begins_109 : decode cX5_begins 109 = .ok (.aload_n 0, 1) := dk_42 (dk_at dksX5_begins_4 14 rfl rfl)
theorem dX5_begins_110 : decode cX5_begins 110 = .ok (.bipush 40, 2) := dk_16 40 (dk_at dksX5_begins_4 15 rfl rfl)
theorem dX5_begins_112 : decode cX5_begins 112 = .ok (.invokevirtual 255, 3) := dk_182 0 255 (dk_at dksX5_begins_4 17 rfl rfl)
theorem dX5_begins_115 : decode cX5_begins 115 = .ok (.ifCond .eq 13, 3) := dk_153 0 13 (dk_at dksX5_begins_4 20 rfl rfl)
theorem dX5_begins_118 : decode cX5_begins 118 = .ok (.aload_n 0, 1) := dk_42 (dk_at dksX5_begins_4 23 rfl rfl)
theorem dX5_begins_119 : decode cX5_begins 119 = .ok (.bipush 6, 2) := dk_16 6 (dk_at dksX5_begins_5 0 rfl rfl)
theorem dX5_begins_121 : decode cX5_begins 121 = .ok (.invokevirtual 239, 3) := dk_182 0 239 (dk_at dksX5_begins_5 2 rfl rfl)
theorem dX5_begins_124 : decode cX5_begins 124 = .ok (.istore_n 1, 1) := dk_60 (dk_at dksX5_begins_5 5 rfl rfl)
theorem dX5_begins_125 : decode cX5_begins 125 = .ok (.goto 27, 3) := dk_167 0 27 (dk_at dksX5_begins_5 6 rfl rfl)
theorem dX5_begins_128 : decode cX5_begins 128 = .ok (.aload_n 0, 1) := dk_42 (dk_at dksX5_begins_5 9 rfl rfl)
theorem dX5_begins_129 : decode cX5_begins 129 = .ok (.bipush 45, 2) := dk_16 45 (dk_at dksX5_begins_5 10 rfl rfl)
theorem dX5_begins_131 : decode cX5_begins 131 = .ok (.invokevirtual 255, 3) := dk_182 0 255 (dk_at dksX5_begins_5 12 rfl rfl)
theorem dX5_begins_134 : decode cX5_begins 134 = .ok (.ifCond .eq 13, 3) := dk_153 0 13 (dk_at dksX5_begins_5 15 rfl rfl)
theorem dX5_begins_137 : decode cX5_begins 137 = .ok (.aload_n 0, 1) := dk_42 (dk_at dksX5_begins_5 18 rfl rfl)
theorem dX5_begins_138 : decode cX5_begins 138 = .ok (.bipush 7, 2) := dk_16 7 (dk_at dksX5_begins_5 19 rfl rfl)
theorem dX5_begins_140 : decode cX5_begins 140 = .ok (.invokevirtual 239, 3) := dk_182 0 239 (dk_at dksX5_begins_5 21 rfl rfl)
theorem dX5_begins_143 : decode cX5_begins 143 = .ok (.istore_n 1, 1) := dk_60 (dk_at dksX5_begins_6 0 rfl rfl)
theorem dX5_begins_144 : decode cX5_begins 144 = .ok (.goto 8, 3) := dk_167 0 8 (dk_at dksX5_begins_6 1 rfl rfl)
theorem dX5_begins_147 : decode cX5_begins 147 = .ok (.aload_n 0, 1) := dk_42 (dk_at dksX5_begins_6 4 rfl rfl)
theorem dX5_begins_148 : decode cX5_begins 148 = .ok (.iconst 1, 1) := dk_4 (dk_at dksX5_begins_6 5 rfl rfl)
theorem dX5_begins_149 : decode cX5_begins 149 = .ok (.invokevirtual 213, 3) := dk_182 0 213 (dk_at dksX5_begins_6 6 rfl rfl)
theorem dX5_begins_152 : decode cX5_begins 152 = .ok (.return_, 1) := dk_177 (dk_at dksX5_begins_6 9 rfl rfl)
abbrev cX5_emits : ByteArray := prog_23_method_20_code
def yX5_emits : MethodName := ⟨RX5, "emits", "(II)V"⟩
def dkwX5_emits_1 : List UInt8 := [180, 0, 204, 4, 96, 181, 0, 204, 177]
abbrev dktX5_emits_1 : List UInt8 := dkwX5_emits_1 ++ []
def dkwX5_emits_0 : List UInt8 := [42, 180, 0, 72, 42, 180, 0, 204, 27, 79, 42, 180, 0, 75, 42, 180, 0, 204, 28, 79, 42, 89]
abbrev dktX5_emits_0 : List UInt8 := dkwX5_emits_0 ++ dktX5_emits_1
theorem dksX5_emits_0 : cX5_emits.data.toList.drop 0 = dktX5_emits_0 := by decide +kernel
theorem dksX5_emits_1 : cX5_emits.data.toList.drop 22 = dktX5_emits_1 := dk_seg dksX5_emits_0 22 rfl rfl
theorem dX5_emits_0 : decode cX5_emits 0 = .ok (.aload_n 0, 1) := dk_42 (dk_at dksX5_emits_0 0 rfl rfl)
theorem dX5_emits_1 : decode cX5_emits 1 = .ok (.getfield 72, 3) := dk_180 0 72 (dk_at dksX5_emits_0 1 rfl rfl)
theorem dX5_emits_4 : decode cX5_emits 4 = .ok (.aload_n 0, 1) := dk_42 (dk_at dksX5_emits_0 4 rfl rfl)
theorem dX5_emits_5 : decode cX5_emits 5 = .ok (.getfield 204, 3) := dk_180 0 204 (dk_at dksX5_emits_0 5 rfl rfl)
theorem dX5_emits_8 : decode cX5_emits 8 = .ok (.iload_n 1, 1) := dk_27 (dk_at dksX5_emits_0 8 rfl rfl)
theorem dX5_emits_9 : decode cX5_emits 9 = .ok (.iastore, 1) := dk_79 (dk_at dksX5_emits_0 9 rfl rfl)
theorem dX5_emits_10 : decode cX5_emits 10 = .ok (.aload_n 0, 1) := dk_42 (dk_at dksX5_emits_0 10 rfl rfl)
theorem dX5_emits_11 : decode cX5_emits 11 = .ok (.getfield 75, 3) := dk_180 0 75 (dk_at dksX5_emits_0 11 rfl rfl)
theorem dX5_emits_14 : decode cX5_emits 14 = .ok (.aload_n 0, 1) := dk_42 (dk_at dksX5_emits_0 14 rfl rfl)
theorem dX5_emits_15 : decode cX5_emits 15 = .ok (.getfield 204, 3) := dk_180 0 204 (dk_at dksX5_emits_0 15 rfl rfl)
theorem dX5_emits_18 : decode cX5_emits 18 = .ok (.iload_n 2, 1) := dk_28 (dk_at dksX5_emits_0 18 rfl rfl)
theorem dX5_emits_19 : decode cX5_emits 19 = .ok (.iastore, 1) := dk_79 (dk_at dksX5_emits_0 19 rfl rfl)
theorem dX5_emits_20 : decode cX5_emits 20 = .ok (.aload_n 0, 1) := dk_42 (dk_at dksX5_emits_0 20 rfl rfl)
theorem dX5_emits_21 : decode cX5_emits 21 = .ok (.dup, 1) := dk_89 (dk_at dksX5_emits_0 21 rfl rfl)
theorem dX5_emits_22 : decode cX5_emits 22 = .ok (.getfield 204, 3) := dk_180 0 204 (dk_at dksX5_emits_1 0 rfl rfl)
theorem dX5_emits_25 : decode cX5_emits 25 = .ok (.iconst 1, 1) := dk_4 (dk_at dksX5_emits_1 3 rfl rfl)
theorem dX5_emits_26 : decode cX5_emits 26 = .ok (.iadd, 1) := dk_96 (dk_at dksX5_emits_1 4 rfl rfl)
theorem dX5_emits_27 : decode cX5_emits 27 = .ok (.putfield 204, 3) := dk_181 0 204 (dk_at dksX5_emits_1 5 rfl rfl)
theorem dX5_emits_30 : decode cX5_emits 30 = .ok (.return_, 1) := dk_177 (dk_at dksX5_emits_1 8 rfl rfl)
abbrev cX5_oneIsOver : ByteArray := prog_23_method_30_code
def yX5_oneIsOver : MethodName := ⟨RX5, "oneIsOver", "()V"⟩
def dkwX5_oneIsOver_1 : List UInt8 := [4, 100, 181, 0, 210, 42, 17, 1, 146, 3, 182, 0, 229, 167, 255, 219, 42, 5, 181, 0, 242, 177]
abbrev dktX5_oneIsOver_1 : List UInt8 := dkwX5_oneIsOver_1 ++ []
def dkwX5_oneIsOver_0 : List UInt8 := [42, 182, 1, 2, 16, 7, 160, 0, 34, 42, 89, 180, 0, 207, 4, 100, 181, 0, 207, 42, 89, 180, 0, 210]
abbrev dktX5_oneIsOver_0 : List UInt8 := dkwX5_oneIsOver_0 ++ dktX5_oneIsOver_1
theorem dksX5_oneIsOver_0 : cX5_oneIsOver.data.toList.drop 0 = dktX5_oneIsOver_0 := by decide +kernel
theorem dksX5_oneIsOver_1 : cX5_oneIsOver.data.toList.drop 24 = dktX5_oneIsOver_1 := dk_seg dksX5_oneIsOver_0 24 rfl rfl
theorem dX5_oneIsOver_0 : decode cX5_oneIsOver 0 = .ok (.aload_n 0, 1) := dk_42 (dk_at dksX5_oneIsOver_0 0 rfl rfl)
theorem dX5_oneIsOver_1 : decode cX5_oneIsOver 1 = .ok (.invokevirtual 258, 3) := dk_182 1 2 (dk_at dksX5_oneIsOver_0 1 rfl rfl)
theorem dX5_oneIsOver_4 : decode cX5_oneIsOver 4 = .ok (.bipush 7, 2) := dk_16 7 (dk_at dksX5_oneIsOver_0 4 rfl rfl)
theorem dX5_oneIsOver_6 : decode cX5_oneIsOver 6 = .ok (.if_icmp .ne 34, 3) := dk_160 0 34 (dk_at dksX5_oneIsOver_0 6 rfl rfl)
theorem dX5_oneIsOver_9 : decode cX5_oneIsOver 9 = .ok (.aload_n 0, 1) := dk_42 (dk_at dksX5_oneIsOver_0 9 rfl rfl)
theorem dX5_oneIsOver_10 : decode cX5_oneIsOver 10 = .ok (.dup, 1) := dk_89 (dk_at dksX5_oneIsOver_0 10 rfl rfl)
theorem dX5_oneIsOver_11 : decode cX5_oneIsOver 11 = .ok (.getfield 207, 3) := dk_180 0 207 (dk_at dksX5_oneIsOver_0 11 rfl rfl)
theorem dX5_oneIsOver_14 : decode cX5_oneIsOver 14 = .ok (.iconst 1, 1) := dk_4 (dk_at dksX5_oneIsOver_0 14 rfl rfl)
theorem dX5_oneIsOver_15 : decode cX5_oneIsOver 15 = .ok (.isub, 1) := dk_100 (dk_at dksX5_oneIsOver_0 15 rfl rfl)
theorem dX5_oneIsOver_16 : decode cX5_oneIsOver 16 = .ok (.putfield 207, 3) := dk_181 0 207 (dk_at dksX5_oneIsOver_0 16 rfl rfl)
theorem dX5_oneIsOver_19 : decode cX5_oneIsOver 19 = .ok (.aload_n 0, 1) := dk_42 (dk_at dksX5_oneIsOver_0 19 rfl rfl)
theorem dX5_oneIsOver_20 : decode cX5_oneIsOver 20 = .ok (.dup, 1) := dk_89 (dk_at dksX5_oneIsOver_0 20 rfl rfl)
theorem dX5_oneIsOver_21 : decode cX5_oneIsOver 21 = .ok (.getfield 210, 3) := dk_180 0 210 (dk_at dksX5_oneIsOver_0 21 rfl rfl)
theorem dX5_oneIsOver_24 : decode cX5_oneIsOver 24 = .ok (.iconst 1, 1) := dk_4 (dk_at dksX5_oneIsOver_1 0 rfl rfl)
theorem dX5_oneIsOver_25 : decode cX5_oneIsOver 25 = .ok (.isub, 1) := dk_100 (dk_at dksX5_oneIsOver_1 1 rfl rfl)
theorem dX5_oneIsOver_26 : decode cX5_oneIsOver 26 = .ok (.putfield 210, 3) := dk_181 0 210 (dk_at dksX5_oneIsOver_1 2 rfl rfl)
theorem dX5_oneIsOver_29 : decode cX5_oneIsOver 29 = .ok (.aload_n 0, 1) := dk_42 (dk_at dksX5_oneIsOver_1 5 rfl rfl)
theorem dX5_oneIsOver_30 : decode cX5_oneIsOver 30 = .ok (.sipush 402, 3) := dk_17 1 146 (dk_at dksX5_oneIsOver_1 6 rfl rfl)
theorem dX5_oneIsOver_33 : decode cX5_oneIsOver 33 = .ok (.iconst 0, 1) := dk_3 (dk_at dksX5_oneIsOver_1 9 rfl rfl)
theorem dX5_oneIsOver_34 : decode cX5_oneIsOver 34 = .ok (.invokevirtual 229, 3) := dk_182 0 229 (dk_at dksX5_oneIsOver_1 10 rfl rfl)
theorem dX5_oneIsOver_37 : decode cX5_oneIsOver 37 = .ok (.goto (-37), 3) := dk_167 255 219 (dk_at dksX5_oneIsOver_1 13 rfl rfl)
theorem dX5_oneIsOver_40 : decode cX5_oneIsOver 40 = .ok (.aload_n 0, 1) := dk_42 (dk_at dksX5_oneIsOver_1 16 rfl rfl)
theorem dX5_oneIsOver_41 : decode cX5_oneIsOver 41 = .ok (.iconst 2, 1) := dk_5 (dk_at dksX5_oneIsOver_1 17 rfl rfl)
theorem dX5_oneIsOver_42 : decode cX5_oneIsOver 42 = .ok (.putfield 242, 3) := dk_181 0 242 (dk_at dksX5_oneIsOver_1 18 rfl rfl)
theorem dX5_oneIsOver_45 : decode cX5_oneIsOver 45 = .ok (.return_, 1) := dk_177 (dk_at dksX5_oneIsOver_1 21 rfl rfl)
abbrev cX5_top : ByteArray := prog_23_method_22_code
def yX5_top : MethodName := ⟨RX5, "top", "()I"⟩
def dkwX5_top_0 : List UInt8 := [42, 180, 0, 48, 42, 180, 0, 207, 4, 100, 46, 172]
abbrev dktX5_top_0 : List UInt8 := dkwX5_top_0 ++ []
theorem dksX5_top_0 : cX5_top.data.toList.drop 0 = dktX5_top_0 := by decide +kernel
theorem dX5_top_0 : decode cX5_top 0 = .ok (.aload_n 0, 1) := dk_42 (dk_at dksX5_top_0 0 rfl rfl)
theorem dX5_top_1 : decode cX5_top 1 = .ok (.getfield 48, 3) := dk_180 0 48 (dk_at dksX5_top_0 1 rfl rfl)
theorem dX5_top_4 : decode cX5_top 4 = .ok (.aload_n 0, 1) := dk_42 (dk_at dksX5_top_0 4 rfl rfl)
theorem dX5_top_5 : decode cX5_top 5 = .ok (.getfield 207, 3) := dk_180 0 207 (dk_at dksX5_top_0 5 rfl rfl)
theorem dX5_top_8 : decode cX5_top 8 = .ok (.iconst 1, 1) := dk_4 (dk_at dksX5_top_0 8 rfl rfl)
theorem dX5_top_9 : decode cX5_top 9 = .ok (.isub, 1) := dk_100 (dk_at dksX5_top_0 9 rfl rfl)
theorem dX5_top_10 : decode cX5_top 10 = .ok (.iaload, 1) := dk_46 (dk_at dksX5_top_0 10 rfl rfl)
theorem dX5_top_11 : decode cX5_top 11 = .ok (.ireturn, 1) := dk_172 (dk_at dksX5_top_0 11 rfl rfl)
abbrev cX5_mayName : ByteArray := prog_23_method_28_code
def yX5_mayName : MethodName := ⟨RX5, "mayName", "(II)Z"⟩
def dkwX5_mayName_1 : List UInt8 := [7, 162, 0, 7, 4, 167, 0, 18, 3, 167, 0, 14, 26, 16, 6, 164, 0, 7, 4, 167, 0, 4, 3, 172]
abbrev dktX5_mayName_1 : List UInt8 := dkwX5_mayName_1 ++ []
def dkwX5_mayName_0 : List UInt8 := [27, 154, 0, 17, 26, 16, 8, 162, 0, 7, 4, 167, 0, 36, 3, 167, 0, 32, 27, 4, 160, 0, 16, 26]
abbrev dktX5_mayName_0 : List UInt8 := dkwX5_mayName_0 ++ dktX5_mayName_1
theorem dksX5_mayName_0 : cX5_mayName.data.toList.drop 0 = dktX5_mayName_0 := by decide +kernel
theorem dksX5_mayName_1 : cX5_mayName.data.toList.drop 24 = dktX5_mayName_1 := dk_seg dksX5_mayName_0 24 rfl rfl
theorem dX5_mayName_0 : decode cX5_mayName 0 = .ok (.iload_n 1, 1) := dk_27 (dk_at dksX5_mayName_0 0 rfl rfl)
theorem dX5_mayName_1 : decode cX5_mayName 1 = .ok (.ifCond .ne 17, 3) := dk_154 0 17 (dk_at dksX5_mayName_0 1 rfl rfl)
theorem dX5_mayName_4 : decode cX5_mayName 4 = .ok (.iload_n 0, 1) := dk_26 (dk_at dksX5_mayName_0 4 rfl rfl)
theorem dX5_mayName_5 : decode cX5_mayName 5 = .ok (.bipush 8, 2) := dk_16 8 (dk_at dksX5_mayName_0 5 rfl rfl)
theorem dX5_mayName_7 : decode cX5_mayName 7 = .ok (.if_icmp .ge 7, 3) := dk_162 0 7 (dk_at dksX5_mayName_0 7 rfl rfl)
theorem dX5_mayName_10 : decode cX5_mayName 10 = .ok (.iconst 1, 1) := dk_4 (dk_at dksX5_mayName_0 10 rfl rfl)
theorem dX5_mayName_11 : decode cX5_mayName 11 = .ok (.goto 36, 3) := dk_167 0 36 (dk_at dksX5_mayName_0 11 rfl rfl)
theorem dX5_mayName_14 : decode cX5_mayName 14 = .ok (.iconst 0, 1) := dk_3 (dk_at dksX5_mayName_0 14 rfl rfl)
theorem dX5_mayName_15 : decode cX5_mayName 15 = .ok (.goto 32, 3) := dk_167 0 32 (dk_at dksX5_mayName_0 15 rfl rfl)
theorem dX5_mayName_18 : decode cX5_mayName 18 = .ok (.iload_n 1, 1) := dk_27 (dk_at dksX5_mayName_0 18 rfl rfl)
theorem dX5_mayName_19 : decode cX5_mayName 19 = .ok (.iconst 1, 1) := dk_4 (dk_at dksX5_mayName_0 19 rfl rfl)
theorem dX5_mayName_20 : decode cX5_mayName 20 = .ok (.if_icmp .ne 16, 3) := dk_160 0 16 (dk_at dksX5_mayName_0 20 rfl rfl)
theorem dX5_mayName_23 : decode cX5_mayName 23 = .ok (.iload_n 0, 1) := dk_26 (dk_at dksX5_mayName_0 23 rfl rfl)
theorem dX5_mayName_24 : decode cX5_mayName 24 = .ok (.iconst 4, 1) := dk_7 (dk_at dksX5_mayName_1 0 rfl rfl)
theorem dX5_mayName_25 : decode cX5_mayName 25 = .ok (.if_icmp .ge 7, 3) := dk_162 0 7 (dk_at dksX5_mayName_1 1 rfl rfl)
theorem dX5_mayName_28 : decode cX5_mayName 28 = .ok (.iconst 1, 1) := dk_4 (dk_at dksX5_mayName_1 4 rfl rfl)
theorem dX5_mayName_29 : decode cX5_mayName 29 = .ok (.goto 18, 3) := dk_167 0 18 (dk_at dksX5_mayName_1 5 rfl rfl)
theorem dX5_mayName_32 : decode cX5_mayName 32 = .ok (.iconst 0, 1) := dk_3 (dk_at dksX5_mayName_1 8 rfl rfl)
theorem dX5_mayName_33 : decode cX5_mayName 33 = .ok (.goto 14, 3) := dk_167 0 14 (dk_at dksX5_mayName_1 9 rfl rfl)
theorem dX5_mayName_36 : decode cX5_mayName 36 = .ok (.iload_n 0, 1) := dk_26 (dk_at dksX5_mayName_1 12 rfl rfl)
theorem dX5_mayName_37 : decode cX5_mayName 37 = .ok (.bipush 6, 2) := dk_16 6 (dk_at dksX5_mayName_1 13 rfl rfl)
theorem dX5_mayName_39 : decode cX5_mayName 39 = .ok (.if_icmp .le 7, 3) := dk_164 0 7 (dk_at dksX5_mayName_1 15 rfl rfl)
theorem dX5_mayName_42 : decode cX5_mayName 42 = .ok (.iconst 1, 1) := dk_4 (dk_at dksX5_mayName_1 18 rfl rfl)
theorem dX5_mayName_43 : decode cX5_mayName 43 = .ok (.goto 4, 3) := dk_167 0 4 (dk_at dksX5_mayName_1 19 rfl rfl)
theorem dX5_mayName_46 : decode cX5_mayName 46 = .ok (.iconst 0, 1) := dk_3 (dk_at dksX5_mayName_1 22 rfl rfl)
theorem dX5_mayName_47 : decode cX5_mayName 47 = .ok (.ireturn, 1) := dk_172 (dk_at dksX5_mayName_1 23 rfl rfl)
abbrev cX5_isSign : ByteArray := prog_23_method_17_code
def yX5_isSign : MethodName := ⟨RX5, "isSign", "(I)Z"⟩
def dkwX5_isSign_0 : List UInt8 := [42, 180, 0, 182, 6, 160, 0, 15, 42, 180, 0, 194, 27, 160, 0, 7, 4, 167, 0, 4, 3, 172]
abbrev dktX5_isSign_0 : List UInt8 := dkwX5_isSign_0 ++ []
theorem dksX5_isSign_0 : cX5_isSign.data.toList.drop 0 = dktX5_isSign_0 := by decide +kernel
theorem dX5_isSign_0 : decode cX5_isSign 0 = .ok (.aload_n 0, 1) := dk_42 (dk_at dksX5_isSign_0 0 rfl rfl)
theorem dX5_isSign_1 : decode cX5_isSign 1 = .ok (.getfield 182, 3) := dk_180 0 182 (dk_at dksX5_isSign_0 1 rfl rfl)
theorem dX5_isSign_4 : decode cX5_isSign 4 = .ok (.iconst 3, 1) := dk_6 (dk_at dksX5_isSign_0 4 rfl rfl)
theorem dX5_isSign_5 : decode cX5_isSign 5 = .ok (.if_icmp .ne 15, 3) := dk_160 0 15 (dk_at dksX5_isSign_0 5 rfl rfl)
theorem dX5_isSign_8 : decode cX5_isSign 8 = .ok (.aload_n 0, 1) := dk_42 (dk_at dksX5_isSign_0 8 rfl rfl)
theorem dX5_isSign_9 : decode cX5_isSign 9 = .ok (.getfield 194, 3) := dk_180 0 194 (dk_at dksX5_isSign_0 9 rfl rfl)
theorem dX5_isSign_12 : decode cX5_isSign 12 = .ok (.iload_n 1, 1) := dk_27 (dk_at dksX5_isSign_0 12 rfl rfl)
theorem dX5_isSign_13 : decode cX5_isSign 13 = .ok (.if_icmp .ne 7, 3) := dk_160 0 7 (dk_at dksX5_isSign_0 13 rfl rfl)
theorem dX5_isSign_16 : decode cX5_isSign 16 = .ok (.iconst 1, 1) := dk_4 (dk_at dksX5_isSign_0 16 rfl rfl)
theorem dX5_isSign_17 : decode cX5_isSign 17 = .ok (.goto 4, 3) := dk_167 0 4 (dk_at dksX5_isSign_0 17 rfl rfl)
theorem dX5_isSign_20 : decode cX5_isSign 20 = .ok (.iconst 0, 1) := dk_3 (dk_at dksX5_isSign_0 20 rfl rfl)
theorem dX5_isSign_21 : decode cX5_isSign 21 = .ok (.ireturn, 1) := dk_172 (dk_at dksX5_isSign_0 21 rfl rfl)
abbrev cX5_goesOn : ByteArray := prog_23_method_33_code
def yX5_goesOn : MethodName := ⟨RX5, "goesOn", "()V"⟩
def dkwX5_goesOn_10 : List UInt8 := [182, 0, 255, 153, 0, 10, 42, 182, 1, 15, 167, 0, 8, 42, 4, 182, 0, 213, 177]
abbrev dktX5_goesOn_10 : List UInt8 := dkwX5_goesOn_10 ++ []
def dkwX5_goesOn_9 : List UInt8 := [181, 0, 207, 42, 28, 3, 182, 0, 229, 42, 182, 1, 12, 167, 0, 29, 27, 4, 160, 0, 19, 42, 16, 59]
abbrev dktX5_goesOn_9 : List UInt8 := dkwX5_goesOn_9 ++ dktX5_goesOn_10
def dkwX5_goesOn_8 : List UInt8 := [42, 6, 182, 0, 233, 42, 180, 0, 51, 42, 180, 0, 207, 46, 61, 42, 89, 180, 0, 207, 4, 100]
abbrev dktX5_goesOn_8 : List UInt8 := dkwX5_goesOn_8 ++ dktX5_goesOn_9
def dkwX5_goesOn_7 : List UInt8 := [180, 0, 207, 4, 100, 8, 79, 42, 182, 0, 219, 42, 4, 181, 0, 242, 167, 0, 72, 27, 8, 160, 0, 41]
abbrev dktX5_goesOn_7 : List UInt8 := dkwX5_goesOn_7 ++ dktX5_goesOn_8
def dkwX5_goesOn_6 : List UInt8 := [6, 182, 0, 233, 42, 180, 0, 51, 42, 180, 0, 207, 42, 180, 0, 194, 79, 42, 180, 0, 48, 42]
abbrev dktX5_goesOn_6 : List UInt8 := dkwX5_goesOn_6 ++ dktX5_goesOn_7
def dkwX5_goesOn_5 : List UInt8 := [27, 7, 160, 0, 63, 42, 180, 0, 182, 6, 160, 0, 55, 42, 180, 0, 194, 184, 1, 9, 153, 0, 45, 42]
abbrev dktX5_goesOn_5 : List UInt8 := dkwX5_goesOn_5 ++ dktX5_goesOn_6
def dkwX5_goesOn_4 : List UInt8 := [181, 0, 207, 42, 89, 180, 0, 210, 4, 100, 181, 0, 210, 42, 182, 0, 219, 42, 182, 0, 245, 167, 0, 137]
abbrev dktX5_goesOn_4 : List UInt8 := dkwX5_goesOn_4 ++ dktX5_goesOn_5
def dkwX5_goesOn_3 : List UInt8 := [160, 0, 48, 42, 16, 41, 182, 0, 255, 153, 0, 39, 42, 6, 182, 0, 233, 42, 89, 180, 0, 207, 4, 100]
abbrev dktX5_goesOn_3 : List UInt8 := dkwX5_goesOn_3 ++ dktX5_goesOn_4
def dkwX5_goesOn_2 : List UInt8 := [160, 0, 19, 42, 42, 180, 0, 194, 182, 1, 6, 42, 4, 181, 0, 242, 167, 0, 188, 27, 16, 6]
abbrev dktX5_goesOn_2 : List UInt8 := dkwX5_goesOn_2 ++ dktX5_goesOn_3
def dkwX5_goesOn_1 : List UInt8 := [180, 0, 194, 16, 45, 159, 0, 21, 42, 180, 0, 194, 16, 42, 159, 0, 12, 42, 180, 0, 194, 16, 47]
abbrev dktX5_goesOn_1 : List UInt8 := dkwX5_goesOn_1 ++ dktX5_goesOn_2
def dkwX5_goesOn_0 : List UInt8 := [42, 182, 1, 2, 60, 42, 180, 0, 182, 6, 160, 0, 55, 42, 180, 0, 194, 16, 43, 159, 0, 30, 42]
abbrev dktX5_goesOn_0 : List UInt8 := dkwX5_goesOn_0 ++ dktX5_goesOn_1
theorem dksX5_goesOn_0 : cX5_goesOn.data.toList.drop 0 = dktX5_goesOn_0 := by decide +kernel
theorem dksX5_goesOn_1 : cX5_goesOn.data.toList.drop 23 = dktX5_goesOn_1 := dk_seg dksX5_goesOn_0 23 rfl rfl
theorem dksX5_goesOn_2 : cX5_goesOn.data.toList.drop 46 = dktX5_goesOn_2 := dk_seg dksX5_goesOn_1 23 rfl rfl
theorem dksX5_goesOn_3 : cX5_goesOn.data.toList.drop 68 = dktX5_goesOn_3 := dk_seg dksX5_goesOn_2 22 rfl rfl
theorem dksX5_goesOn_4 : cX5_goesOn.data.toList.drop 92 = dktX5_goesOn_4 := dk_seg dksX5_goesOn_3 24 rfl rfl
theorem dksX5_goesOn_5 : cX5_goesOn.data.toList.drop 116 = dktX5_goesOn_5 := dk_seg dksX5_goesOn_4 24 rfl rfl
theorem dksX5_goesOn_6 : cX5_goesOn.data.toList.drop 140 = dktX5_goesOn_6 := dk_seg dksX5_goesOn_5 24 rfl rfl
theorem dksX5_goesOn_7 : cX5_goesOn.data.toList.drop 162 = dktX5_goesOn_7 := dk_seg dksX5_goesOn_6 22 rfl rfl
theorem dksX5_goesOn_8 : cX5_goesOn.data.toList.drop 186 = dktX5_goesOn_8 := dk_seg dksX5_goesOn_7 24 rfl rfl
theorem dksX5_goesOn_9 : cX5_goesOn.data.toList.drop 208 = dktX5_goesOn_9 := dk_seg dksX5_goesOn_8 22 rfl rfl
theorem dksX5_goesOn_10 : cX5_goesOn.data.toList.drop 232 = dktX5_goesOn_10 := dk_seg dksX5_goesOn_9 24 rfl rfl
theorem dX5_goesOn_0 : decode cX5_goesOn 0 = .ok (.aload_n 0, 1) := dk_42 (dk_at dksX5_goesOn_0 0 rfl rfl)
theorem dX5_goesOn_1 : decode cX5_goesOn 1 = .ok (.invokevirtual 258, 3) := dk_182 1 2 (dk_at dksX5_goesOn_0 1 rfl rfl)
theorem dX5_goesOn_4 : decode cX5_goesOn 4 = .ok (.istore_n 1, 1) := dk_60 (dk_at dksX5_goesOn_0 4 rfl rfl)
theorem dX5_goesOn_5 : decode cX5_goesOn 5 = .ok (.aload_n 0, 1) := dk_42 (dk_at dksX5_goesOn_0 5 rfl rfl)
theorem dX5_goesOn_6 : decode cX5_goesOn 6 = .ok (.getfield 182, 3) := dk_180 0 182 (dk_at dksX5_goesOn_0 6 rfl rfl)
theorem dX5_goesOn_9 : decode cX5_goesOn 9 = .ok (.iconst 3, 1) := dk_6 (dk_at dksX5_goesOn_0 9 rfl rfl)
theorem dX5_goesOn_10 : decode cX5_goesOn 10 = .ok (.if_icmp .ne 55, 3) := dk_160 0 55 (dk_at dksX5_goesOn_0 10 rfl rfl)
theorem dX5_goesOn_13 : decode cX5_goesOn 13 = .ok (.aload_n 0, 1) := dk_42 (dk_at dksX5_goesOn_0 13 rfl rfl)
theorem dX5_goesOn_14 : decode cX5_goesOn 14 = .ok (.getfield 194, 3) := dk_180 0 194 (dk_at dksX5_goesOn_0 14 rfl rfl)
theorem dX5_goesOn_17 : decode cX5_goesOn 17 = .ok (.bipush 43, 2) := dk_16 43 (dk_at dksX5_goesOn_0 17 rfl rfl)
theorem dX5_goesOn_19 : decode cX5_goesOn 19 = .ok (.if_icmp .eq 30, 3) := dk_159 0 30 (dk_at dksX5_goesOn_0 19 rfl rfl)
theorem dX5_goesOn_22 : decode cX5_goesOn 22 = .ok (.aload_n 0, 1) := dk_42 (dk_at dksX5_goesOn_0 22 rfl rfl)
theorem dX5_goesOn_23 : decode cX5_goesOn 23 = .ok (.getfield 194, 3) := dk_180 0 194 (dk_at dksX5_goesOn_1 0 rfl rfl)
theorem dX5_goesOn_26 : decode cX5_goesOn 26 = .ok (.bipush 45, 2) := dk_16 45 (dk_at dksX5_goesOn_1 3 rfl rfl)
theorem dX5_goesOn_28 : decode cX5_goesOn 28 = .ok (.if_icmp .eq 21, 3) := dk_159 0 21 (dk_at dksX5_goesOn_1 5 rfl rfl)
theorem dX5_goesOn_31 : decode cX5_goesOn 31 = .ok (.aload_n 0, 1) := dk_42 (dk_at dksX5_goesOn_1 8 rfl rfl)
theorem dX5_goesOn_32 : decode cX5_goesOn 32 = .ok (.getfield 194, 3) := dk_180 0 194 (dk_at dksX5_goesOn_1 9 rfl rfl)
theorem dX5_goesOn_35 : decode cX5_goesOn 35 = .ok (.bipush 42, 2) := dk_16 42 (dk_at dksX5_goesOn_1 12 rfl rfl)
theorem dX5_goesOn_37 : decode cX5_goesOn 37 = .ok (.if_icmp .eq 12, 3) := dk_159 0 12 (dk_at dksX5_goesOn_1 14 rfl rfl)
theorem dX5_goesOn_40 : decode cX5_goesOn 40 = .ok (.aload_n 0, 1) := dk_42 (dk_at dksX5_goesOn_1 17 rfl rfl)
theorem dX5_goesOn_41 : decode cX5_goesOn 41 = .ok (.getfield 194, 3) := dk_180 0 194 (dk_at dksX5_goesOn_1 18 rfl rfl)
theorem dX5_goesOn_44 : decode cX5_goesOn 44 = .ok (.bipush 47, 2) := dk_16 47 (dk_at dksX5_goesOn_1 21 rfl rfl)
theorem dX5_goesOn_46 : decode cX5_goesOn 46 = .ok (.if_icmp .ne 19, 3) := dk_160 0 19 (dk_at dksX5_goesOn_2 0 rfl rfl)
theorem dX5_goesOn_49 : decode cX5_goesOn 49 = .ok (.aload_n 0, 1) := dk_42 (dk_at dksX5_goesOn_2 3 rfl rfl)
theorem dX5_goesOn_50 : decode cX5_goesOn 50 = .ok (.aload_n 0, 1) := dk_42 (dk_at dksX5_goesOn_2 4 rfl rfl)
theorem dX5_goesOn_51 : decode cX5_goesOn 51 = .ok (.getfield 194, 3) := dk_180 0 194 (dk_at dksX5_goesOn_2 5 rfl rfl)
theorem dX5_goesOn_54 : decode cX5_goesOn 54 = .ok (.invokevirtual 262, 3) := dk_182 1 6 (dk_at dksX5_goesOn_2 8 rfl rfl)
theorem dX5_goesOn_57 : decode cX5_goesOn 57 = .ok (.aload_n 0, 1) := dk_42 (dk_at dksX5_goesOn_2 11 rfl rfl)
theorem dX5_goesOn_58 : decode cX5_goesOn 58 = .ok (.iconst 1, 1) := dk_4 (dk_at dksX5_goesOn_2 12 rfl rfl)
theorem dX5_goesOn_59 : decode cX5_goesOn 59 = .ok (.putfield 242, 3) := dk_181 0 242 (dk_at dksX5_goesOn_2 13 rfl rfl)
theorem dX5_goesOn_62 : decode cX5_goesOn 62 = .ok (.goto 188, 3) := dk_167 0 188 (dk_at dksX5_goesOn_2 16 rfl rfl)
theorem dX5_goesOn_65 : decode cX5_goesOn 65 = .ok (.iload_n 1, 1) := dk_27 (dk_at dksX5_goesOn_2 19 rfl rfl)
theorem dX5_goesOn_66 : decode cX5_goesOn 66 = .ok (.bipush 6, 2) := dk_16 6 (dk_at dksX5_goesOn_2 20 rfl rfl)
theorem dX5_goesOn_68 : decode cX5_goesOn 68 = .ok (.if_icmp .ne 48, 3) := dk_160 0 48 (dk_at dksX5_goesOn_3 0 rfl rfl)
theorem dX5_goesOn_71 : decode cX5_goesOn 71 = .ok (.aload_n 0, 1) := dk_42 (dk_at dksX5_goesOn_3 3 rfl rfl)
theorem dX5_goesOn_72 : decode cX5_goesOn 72 = .ok (.bipush 41, 2) := dk_16 41 (dk_at dksX5_goesOn_3 4 rfl rfl)
theorem dX5_goesOn_74 : decode cX5_goesOn 74 = .ok (.invokevirtual 255, 3) := dk_182 0 255 (dk_at dksX5_goesOn_3 6 rfl rfl)
theorem dX5_goesOn_77 : decode cX5_goesOn 77 = .ok (.ifCond .eq 39, 3) := dk_153 0 39 (dk_at dksX5_goesOn_3 9 rfl rfl)
theorem dX5_goesOn_80 : decode cX5_goesOn 80 = .ok (.aload_n 0, 1) := dk_42 (dk_at dksX5_goesOn_3 12 rfl rfl)
theorem dX5_goesOn_81 : decode cX5_goesOn 81 = .ok (.iconst 3, 1) := dk_6 (dk_at dksX5_goesOn_3 13 rfl rfl)
theorem dX5_goesOn_82 : decode cX5_goesOn 82 = .ok (.invokevirtual 233, 3) := dk_182 0 233 (dk_at dksX5_goesOn_3 14 rfl rfl)
theorem dX5_goesOn_85 : decode cX5_goesOn 85 = .ok (.aload_n 0, 1) := dk_42 (dk_at dksX5_goesOn_3 17 rfl rfl)
theorem dX5_goesOn_86 : decode cX5_goesOn 86 = .ok (.dup, 1) := dk_89 (dk_at dksX5_goesOn_3 18 rfl rfl)
theorem dX5_goesOn_87 : decode cX5_goesOn 87 = .ok (.getfield 207, 3) := dk_180 0 207 (dk_at dksX5_goesOn_3 19 rfl rfl)
theorem dX5_goesOn_90 : decode cX5_goesOn 90 = .ok (.iconst 1, 1) := dk_4 (dk_at dksX5_goesOn_3 22 rfl rfl)
theorem dX5_goesOn_91 : decode cX5_goesOn 91 = .ok (.isub, 1) := dk_100 (dk_at dksX5_goesOn_3 23 rfl rfl)
theorem dX5_goesOn_92 : decode cX5_goesOn 92 = .ok (.putfield 207, 3) := dk_181 0 207 (dk_at dksX5_goesOn_4 0 rfl rfl)
theorem dX5_goesOn_95 : decode cX5_goesOn 95 = .ok (.aload_n 0, 1) := dk_42 (dk_at dksX5_goesOn_4 3 rfl rfl)
theorem dX5_goesOn_96 : decode cX5_goesOn 96 = .ok (.dup, 1) := dk_89 (dk_at dksX5_goesOn_4 4 rfl rfl)
theorem dX5_goesOn_97 : decode cX5_goesOn 97 = .ok (.getfield 210, 3) := dk_180 0 210 (dk_at dksX5_goesOn_4 5 rfl rfl)
theorem dX5_goesOn_100 : decode cX5_goesOn 100 = .ok (.iconst 1, 1) := dk_4 (dk_at dksX5_goesOn_4 8 rfl rfl)
theorem dX5_goesOn_101 : decode cX5_goesOn 101 = .ok (.isub, 1) := dk_100 (dk_at dksX5_goesOn_4 9 rfl rfl)
theorem dX5_goesOn_102 : decode cX5_goesOn 102 = .ok (.putfield 210, 3) := dk_181 0 210 (dk_at dksX5_goesOn_4 10 rfl rfl)
theorem dX5_goesOn_105 : decode cX5_goesOn 105 = .ok (.aload_n 0, 1) := dk_42 (dk_at dksX5_goesOn_4 13 rfl rfl)
theorem dX5_goesOn_106 : decode cX5_goesOn 106 = .ok (.invokevirtual 219, 3) := dk_182 0 219 (dk_at dksX5_goesOn_4 14 rfl rfl)
theorem dX5_goesOn_109 : decode cX5_goesOn 109 = .ok (.aload_n 0, 1) := dk_42 (dk_at dksX5_goesOn_4 17 rfl rfl)
theorem dX5_goesOn_110 : decode cX5_goesOn 110 = .ok (.invokevirtual 245, 3) := dk_182 0 245 (dk_at dksX5_goesOn_4 18 rfl rfl)
theorem dX5_goesOn_113 : decode cX5_goesOn 113 = .ok (.goto 137, 3) := dk_167 0 137 (dk_at dksX5_goesOn_4 21 rfl rfl)
theorem dX5_goesOn_116 : decode cX5_goesOn 116 = .ok (.iload_n 1, 1) := dk_27 (dk_at dksX5_goesOn_5 0 rfl rfl)
theorem dX5_goesOn_117 : decode cX5_goesOn 117 = .ok (.iconst 4, 1) := dk_7 (dk_at dksX5_goesOn_5 1 rfl rfl)
theorem dX5_goesOn_118 : decode cX5_goesOn 118 = .ok (.if_icmp .ne 63, 3) := dk_160 0 63 (dk_at dksX5_goesOn_5 2 rfl rfl)
theorem dX5_goesOn_121 : decode cX5_goesOn 121 = .ok (.aload_n 0, 1) := dk_42 (dk_at dksX5_goesOn_5 5 rfl rfl)
theorem dX5_goesOn_122 : decode cX5_goesOn 122 = .ok (.getfield 182, 3) := dk_180 0 182 (dk_at dksX5_goesOn_5 6 rfl rfl)
theorem dX5_goesOn_125 : decode cX5_goesOn 125 = .ok (.iconst 3, 1) := dk_6 (dk_at dksX5_goesOn_5 9 rfl rfl)
theorem dX5_goesOn_126 : decode cX5_goesOn 126 = .ok (.if_icmp .ne 55, 3) := dk_160 0 55 (dk_at dksX5_goesOn_5 10 rfl rfl)
theorem dX5_goesOn_129 : decode cX5_goesOn 129 = .ok (.aload_n 0, 1) := dk_42 (dk_at dksX5_goesOn_5 13 rfl rfl)
theorem dX5_goesOn_130 : decode cX5_goesOn 130 = .ok (.getfield 194, 3) := dk_180 0 194 (dk_at dksX5_goesOn_5 14 rfl rfl)
theorem dX5_goesOn_133 : decode cX5_goesOn 133 = .ok (.invokestatic 265, 3) := dk_184 1 9 (dk_at dksX5_goesOn_5 17 rfl rfl)
theorem dX5_goesOn_136 : decode cX5_goesOn 136 = .ok (.ifCond .eq 45, 3) := dk_153 0 45 (dk_at dksX5_goesOn_5 20 rfl rfl)
theorem dX5_goesOn_139 : decode cX5_goesOn 139 = .ok (.aload_n 0, 1) := dk_42 (dk_at dksX5_goesOn_5 23 rfl rfl)
theorem dX5_goesOn_140 : decode cX5_goesOn 140 = .ok (.iconst 3, 1) := dk_6 (dk_at dksX5_goesOn_6 0 rfl rfl)
theorem dX5_goesOn_141 : decode cX5_goesOn 141 = .ok (.invokevirtual 233, 3) := dk_182 0 233 (dk_at dksX5_goesOn_6 1 rfl rfl)
theorem dX5_goesOn_144 : decode cX5_goesOn 144 = .ok (.aload_n 0, 1) := dk_42 (dk_at dksX5_goesOn_6 4 rfl rfl)
theorem dX5_goesOn_145 : decode cX5_goesOn 145 = .ok (.getfield 51, 3) := dk_180 0 51 (dk_at dksX5_goesOn_6 5 rfl rfl)
theorem dX5_goesOn_148 : decode cX5_goesOn 148 = .ok (.aload_n 0, 1) := dk_42 (dk_at dksX5_goesOn_6 8 rfl rfl)
theorem dX5_goesOn_149 : decode cX5_goesOn 149 = .ok (.getfield 207, 3) := dk_180 0 207 (dk_at dksX5_goesOn_6 9 rfl rfl)
theorem dX5_goesOn_152 : decode cX5_goesOn 152 = .ok (.aload_n 0, 1) := dk_42 (dk_at dksX5_goesOn_6 12 rfl rfl)
theorem dX5_goesOn_153 : decode cX5_goesOn 153 = .ok (.getfield 194, 3) := dk_180 0 194 (dk_at dksX5_goesOn_6 13 rfl rfl)
theorem dX5_goesOn_156 : decode cX5_goesOn 156 = .ok (.iastore, 1) := dk_79 (dk_at dksX5_goesOn_6 16 rfl rfl)
theorem dX5_goesOn_157 : decode cX5_goesOn 157 = .ok (.aload_n 0, 1) := dk_42 (dk_at dksX5_goesOn_6 17 rfl rfl)
theorem dX5_goesOn_158 : decode cX5_goesOn 158 = .ok (.getfield 48, 3) := dk_180 0 48 (dk_at dksX5_goesOn_6 18 rfl rfl)
theorem dX5_goesOn_161 : decode cX5_goesOn 161 = .ok (.aload_n 0, 1) := dk_42 (dk_at dksX5_goesOn_6 21 rfl rfl)
theorem dX5_goesOn_162 : decode cX5_goesOn 162 = .ok (.getfield 207, 3) := dk_180 0 207 (dk_at dksX5_goesOn_7 0 rfl rfl)
theorem dX5_goesOn_165 : decode cX5_goesOn 165 = .ok (.iconst 1, 1) := dk_4 (dk_at dksX5_goesOn_7 3 rfl rfl)
theorem dX5_goesOn_166 : decode cX5_goesOn 166 = .ok (.isub, 1) := dk_100 (dk_at dksX5_goesOn_7 4 rfl rfl)
theorem dX5_goesOn_167 : decode cX5_goesOn 167 = .ok (.iconst 5, 1) := dk_8 (dk_at dksX5_goesOn_7 5 rfl rfl)
theorem dX5_goesOn_168 : decode cX5_goesOn 168 = .ok (.iastore, 1) := dk_79 (dk_at dksX5_goesOn_7 6 rfl rfl)
theorem dX5_goesOn_169 : decode cX5_goesOn 169 = .ok (.aload_n 0, 1) := dk_42 (dk_at dksX5_goesOn_7 7 rfl rfl)
theorem dX5_goesOn_170 : decode cX5_goesOn 170 = .ok (.invokevirtual 219, 3) := dk_182 0 219 (dk_at dksX5_goesOn_7 8 rfl rfl)
theorem dX5_goesOn_173 : decode cX5_goesOn 173 = .ok (.aload_n 0, 1) := dk_42 (dk_at dksX5_goesOn_7 11 rfl rfl)
theorem dX5_goesOn_174 : decode cX5_goesOn 174 = .ok (.iconst 1, 1) := dk_4 (dk_at dksX5_goesOn_7 12 rfl rfl)
theorem dX5_goesOn_175 : decode cX5_goesOn 175 = .ok (.putfield 242, 3) := dk_181 0 242 (dk_at dksX5_goesOn_7 13 rfl rfl)
theorem dX5_goesOn_178 : decode cX5_goesOn 178 = .ok (.goto 72, 3) := dk_167 0 72 (dk_at dksX5_goesOn_7 16 rfl rfl)
theorem dX5_goesOn_181 : decode cX5_goesOn 181 = .ok (.iload_n 1, 1) := dk_27 (dk_at dksX5_goesOn_7 19 rfl rfl)
theorem dX5_goesOn_182 : decode cX5_goesOn 182 = .ok (.iconst 5, 1) := dk_8 (dk_at dksX5_goesOn_7 20 rfl rfl)
theorem dX5_goesOn_183 : decode cX5_goesOn 183 = .ok (.if_icmp .ne 41, 3) := dk_160 0 41 (dk_at dksX5_goesOn_7 21 rfl rfl)
theorem dX5_goesOn_186 : decode cX5_goesOn 186 = .ok (.aload_n 0, 1) := dk_42 (dk_at dksX5_goesOn_8 0 rfl rfl)
theorem dX5_goesOn_187 : decode cX5_goesOn 187 = .ok (.iconst 3, 1) := dk_6 (dk_at dksX5_goesOn_8 1 rfl rfl)
theorem dX5_goesOn_188 : decode cX5_goesOn 188 = .ok (.invokevirtual 233, 3) := dk_182 0 233 (dk_at dksX5_goesOn_8 2 rfl rfl)
theorem dX5_goesOn_191 : decode cX5_goesOn 191 = .ok (.aload_n 0, 1) := dk_42 (dk_at dksX5_goesOn_8 5 rfl rfl)
theorem dX5_goesOn_192 : decode cX5_goesOn 192 = .ok (.getfield 51, 3) := dk_180 0 51 (dk_at dksX5_goesOn_8 6 rfl rfl)
theorem dX5_goesOn_195 : decode cX5_goesOn 195 = .ok (.aload_n 0, 1) := dk_42 (dk_at dksX5_goesOn_8 9 rfl rfl)
theorem dX5_goesOn_196 : decode cX5_goesOn 196 = .ok (.getfield 207, 3) := dk_180 0 207 (dk_at dksX5_goesOn_8 10 rfl rfl)
theorem dX5_goesOn_199 : decode cX5_goesOn 199 = .ok (.iaload, 1) := dk_46 (dk_at dksX5_goesOn_8 13 rfl rfl)
theorem dX5_goesOn_200 : decode cX5_goesOn 200 = .ok (.istore_n 2, 1) := dk_61 (dk_at dksX5_goesOn_8 14 rfl rfl)
theorem dX5_goesOn_201 : decode cX5_goesOn 201 = .ok (.aload_n 0, 1) := dk_42 (dk_at dksX5_goesOn_8 15 rfl rfl)
theorem dX5_goesOn_202 : decode cX5_goesOn 202 = .ok (.dup, 1) := dk_89 (dk_at dksX5_goesOn_8 16 rfl rfl)
theorem dX5_goesOn_203 : decode cX5_goesOn 203 = .ok (.getfield 207, 3) := dk_180 0 207 (dk_at dksX5_goesOn_8 17 rfl rfl)
theorem dX5_goesOn_206 : decode cX5_goesOn 206 = .ok (.iconst 1, 1) := dk_4 (dk_at dksX5_goesOn_8 20 rfl rfl)
theorem dX5_goesOn_207 : decode cX5_goesOn 207 = .ok (.isub, 1) := dk_100 (dk_at dksX5_goesOn_8 21 rfl rfl)
theorem dX5_goesOn_208 : decode cX5_goesOn 208 = .ok (.putfield 207, 3) := dk_181 0 207 (dk_at dksX5_goesOn_9 0 rfl rfl)
theorem dX5_goesOn_211 : decode cX5_goesOn 211 = .ok (.aload_n 0, 1) := dk_42 (dk_at dksX5_goesOn_9 3 rfl rfl)
theorem dX5_goesOn_212 : decode cX5_goesOn 212 = .ok (.iload_n 2, 1) := dk_28 (dk_at dksX5_goesOn_9 4 rfl rfl)
theorem dX5_goesOn_213 : decode cX5_goesOn 213 = .ok (.iconst 0, 1) := dk_3 (dk_at dksX5_goesOn_9 5 rfl rfl)
theorem dX5_goesOn_214 : decode cX5_goesOn 214 = .ok (.invokevirtual 229, 3) := dk_182 0 229 (dk_at dksX5_goesOn_9 6 rfl rfl)
theorem dX5_goesOn_217 : decode cX5_goesOn 217 = .ok (.aload_n 0, 1) := dk_42 (dk_at dksX5_goesOn_9 9 rfl rfl)
theorem dX5_goesOn_218 : decode cX5_goesOn 218 = .ok (.invokevirtual 268, 3) := dk_182 1 12 (dk_at dksX5_goesOn_9 10 rfl rfl)
theorem dX5_goesOn_221 : decode cX5_goesOn 221 = .ok (.goto 29, 3) := dk_167 0 29 (dk_at dksX5_goesOn_9 13 rfl rfl)
theorem dX5_goesOn_224 : decode cX5_goesOn 224 = .ok (.iload_n 1, 1) := dk_27 (dk_at dksX5_goesOn_9 16 rfl rfl)
theorem dX5_goesOn_225 : decode cX5_goesOn 225 = .ok (.iconst 1, 1) := dk_4 (dk_at dksX5_goesOn_9 17 rfl rfl)
theorem dX5_goesOn_226 : decode cX5_goesOn 226 = .ok (.if_icmp .ne 19, 3) := dk_160 0 19 (dk_at dksX5_goesOn_9 18 rfl rfl)
theorem dX5_goesOn_229 : decode cX5_goesOn 229 = .ok (.aload_n 0, 1) := dk_42 (dk_at dksX5_goesOn_9 21 rfl rfl)
theorem dX5_goesOn_230 : decode cX5_goesOn 230 = .ok (.bipush 59, 2) := dk_16 59 (dk_at dksX5_goesOn_9 22 rfl rfl)
theorem dX5_goesOn_232 : decode cX5_goesOn 232 = .ok (.invokevirtual 255, 3) := dk_182 0 255 (dk_at dksX5_goesOn_10 0 rfl rfl)
theorem dX5_goesOn_235 : decode cX5_goesOn 235 = .ok (.ifCond .eq 10, 3) := dk_153 0 10 (dk_at dksX5_goesOn_10 3 rfl rfl)
theorem dX5_goesOn_238 : decode cX5_goesOn 238 = .ok (.aload_n 0, 1) := dk_42 (dk_at dksX5_goesOn_10 6 rfl rfl)
theorem dX5_goesOn_239 : decode cX5_goesOn 239 = .ok (.invokevirtual 271, 3) := dk_182 1 15 (dk_at dksX5_goesOn_10 7 rfl rfl)
theorem dX5_goesOn_242 : decode cX5_goesOn 242 = .ok (.goto 8, 3) := dk_167 0 8 (dk_at dksX5_goesOn_10 10 rfl rfl)
theorem dX5_goesOn_245 : decode cX5_goesOn 245 = .ok (.aload_n 0, 1) := dk_42 (dk_at dksX5_goesOn_10 13 rfl rfl)
theorem dX5_goesOn_246 : decode cX5_goesOn 246 = .ok (.iconst 1, 1) := dk_4 (dk_at dksX5_goesOn_10 14 rfl rfl)
theorem dX5_goesOn_247 : decode cX5_goesOn 247 = .ok (.invokevirtual 213, 3) := dk_182 0 213 (dk_at dksX5_goesOn_10 15 rfl rfl)
theorem dX5_goesOn_250 : decode cX5_goesOn 250 = .ok (.return_, 1) := dk_177 (dk_at dksX5_goesOn_10 18 rfl rfl)
abbrev cX5_waitsFor : ByteArray := prog_23_method_26_code
def yX5_waitsFor : MethodName := ⟨RX5, "waitsFor", "(I)V"⟩
def dkwX5_waitsFor_1 : List UInt8 := [180, 0, 222, 42, 180, 0, 207, 79, 42, 89, 180, 0, 222, 4, 96, 181, 0, 222, 42, 182, 0, 219, 177]
abbrev dktX5_waitsFor_1 : List UInt8 := dkwX5_waitsFor_1 ++ []
def dkwX5_waitsFor_0 : List UInt8 := [42, 27, 184, 0, 225, 182, 0, 233, 42, 180, 0, 54, 42, 180, 0, 222, 27, 79, 42, 180, 0, 57, 42]
abbrev dktX5_waitsFor_0 : List UInt8 := dkwX5_waitsFor_0 ++ dktX5_waitsFor_1
theorem dksX5_waitsFor_0 : cX5_waitsFor.data.toList.drop 0 = dktX5_waitsFor_0 := by decide +kernel
theorem dksX5_waitsFor_1 : cX5_waitsFor.data.toList.drop 23 = dktX5_waitsFor_1 := dk_seg dksX5_waitsFor_0 23 rfl rfl
theorem dX5_waitsFor_0 : decode cX5_waitsFor 0 = .ok (.aload_n 0, 1) := dk_42 (dk_at dksX5_waitsFor_0 0 rfl rfl)
theorem dX5_waitsFor_1 : decode cX5_waitsFor 1 = .ok (.iload_n 1, 1) := dk_27 (dk_at dksX5_waitsFor_0 1 rfl rfl)
theorem dX5_waitsFor_2 : decode cX5_waitsFor 2 = .ok (.invokestatic 225, 3) := dk_184 0 225 (dk_at dksX5_waitsFor_0 2 rfl rfl)
theorem dX5_waitsFor_5 : decode cX5_waitsFor 5 = .ok (.invokevirtual 233, 3) := dk_182 0 233 (dk_at dksX5_waitsFor_0 5 rfl rfl)
theorem dX5_waitsFor_8 : decode cX5_waitsFor 8 = .ok (.aload_n 0, 1) := dk_42 (dk_at dksX5_waitsFor_0 8 rfl rfl)
theorem dX5_waitsFor_9 : decode cX5_waitsFor 9 = .ok (.getfield 54, 3) := dk_180 0 54 (dk_at dksX5_waitsFor_0 9 rfl rfl)
theorem dX5_waitsFor_12 : decode cX5_waitsFor 12 = .ok (.aload_n 0, 1) := dk_42 (dk_at dksX5_waitsFor_0 12 rfl rfl)
theorem dX5_waitsFor_13 : decode cX5_waitsFor 13 = .ok (.getfield 222, 3) := dk_180 0 222 (dk_at dksX5_waitsFor_0 13 rfl rfl)
theorem dX5_waitsFor_16 : decode cX5_waitsFor 16 = .ok (.iload_n 1, 1) := dk_27 (dk_at dksX5_waitsFor_0 16 rfl rfl)
theorem dX5_waitsFor_17 : decode cX5_waitsFor 17 = .ok (.iastore, 1) := dk_79 (dk_at dksX5_waitsFor_0 17 rfl rfl)
theorem dX5_waitsFor_18 : decode cX5_waitsFor 18 = .ok (.aload_n 0, 1) := dk_42 (dk_at dksX5_waitsFor_0 18 rfl rfl)
theorem dX5_waitsFor_19 : decode cX5_waitsFor 19 = .ok (.getfield 57, 3) := dk_180 0 57 (dk_at dksX5_waitsFor_0 19 rfl rfl)
theorem dX5_waitsFor_22 : decode cX5_waitsFor 22 = .ok (.aload_n 0, 1) := dk_42 (dk_at dksX5_waitsFor_0 22 rfl rfl)
theorem dX5_waitsFor_23 : decode cX5_waitsFor 23 = .ok (.getfield 222, 3) := dk_180 0 222 (dk_at dksX5_waitsFor_1 0 rfl rfl)
theorem dX5_waitsFor_26 : decode cX5_waitsFor 26 = .ok (.aload_n 0, 1) := dk_42 (dk_at dksX5_waitsFor_1 3 rfl rfl)
theorem dX5_waitsFor_27 : decode cX5_waitsFor 27 = .ok (.getfield 207, 3) := dk_180 0 207 (dk_at dksX5_waitsFor_1 4 rfl rfl)
theorem dX5_waitsFor_30 : decode cX5_waitsFor 30 = .ok (.iastore, 1) := dk_79 (dk_at dksX5_waitsFor_1 7 rfl rfl)
theorem dX5_waitsFor_31 : decode cX5_waitsFor 31 = .ok (.aload_n 0, 1) := dk_42 (dk_at dksX5_waitsFor_1 8 rfl rfl)
theorem dX5_waitsFor_32 : decode cX5_waitsFor 32 = .ok (.dup, 1) := dk_89 (dk_at dksX5_waitsFor_1 9 rfl rfl)
theorem dX5_waitsFor_33 : decode cX5_waitsFor 33 = .ok (.getfield 222, 3) := dk_180 0 222 (dk_at dksX5_waitsFor_1 10 rfl rfl)
theorem dX5_waitsFor_36 : decode cX5_waitsFor 36 = .ok (.iconst 1, 1) := dk_4 (dk_at dksX5_waitsFor_1 13 rfl rfl)
theorem dX5_waitsFor_37 : decode cX5_waitsFor 37 = .ok (.iadd, 1) := dk_96 (dk_at dksX5_waitsFor_1 14 rfl rfl)
theorem dX5_waitsFor_38 : decode cX5_waitsFor 38 = .ok (.putfield 222, 3) := dk_181 0 222 (dk_at dksX5_waitsFor_1 15 rfl rfl)
theorem dX5_waitsFor_41 : decode cX5_waitsFor 41 = .ok (.aload_n 0, 1) := dk_42 (dk_at dksX5_waitsFor_1 18 rfl rfl)
theorem dX5_waitsFor_42 : decode cX5_waitsFor 42 = .ok (.invokevirtual 219, 3) := dk_182 0 219 (dk_at dksX5_waitsFor_1 19 rfl rfl)
theorem dX5_waitsFor_45 : decode cX5_waitsFor 45 = .ok (.return_, 1) := dk_177 (dk_at dksX5_waitsFor_1 22 rfl rfl)
abbrev cX5_rank : ByteArray := prog_23_method_24_code
def yX5_rank : MethodName := ⟨RX5, "rank", "(I)I"⟩
def dkwX5_rank_1 : List UInt8 := [16, 43, 159, 0, 9, 26, 16, 45, 160, 0, 7, 6, 167, 0, 4, 7, 172]
abbrev dktX5_rank_1 : List UInt8 := dkwX5_rank_1 ++ []
def dkwX5_rank_0 : List UInt8 := [26, 17, 1, 151, 160, 0, 7, 4, 167, 0, 31, 26, 17, 1, 150, 160, 0, 7, 5, 167, 0, 20, 26]
abbrev dktX5_rank_0 : List UInt8 := dkwX5_rank_0 ++ dktX5_rank_1
theorem dksX5_rank_0 : cX5_rank.data.toList.drop 0 = dktX5_rank_0 := by decide +kernel
theorem dksX5_rank_1 : cX5_rank.data.toList.drop 23 = dktX5_rank_1 := dk_seg dksX5_rank_0 23 rfl rfl
theorem dX5_rank_0 : decode cX5_rank 0 = .ok (.iload_n 0, 1) := dk_26 (dk_at dksX5_rank_0 0 rfl rfl)
theorem dX5_rank_1 : decode cX5_rank 1 = .ok (.sipush 407, 3) := dk_17 1 151 (dk_at dksX5_rank_0 1 rfl rfl)
theorem dX5_rank_4 : decode cX5_rank 4 = .ok (.if_icmp .ne 7, 3) := dk_160 0 7 (dk_at dksX5_rank_0 4 rfl rfl)
theorem dX5_rank_7 : decode cX5_rank 7 = .ok (.iconst 1, 1) := dk_4 (dk_at dksX5_rank_0 7 rfl rfl)
theorem dX5_rank_8 : decode cX5_rank 8 = .ok (.goto 31, 3) := dk_167 0 31 (dk_at dksX5_rank_0 8 rfl rfl)
theorem dX5_rank_11 : decode cX5_rank 11 = .ok (.iload_n 0, 1) := dk_26 (dk_at dksX5_rank_0 11 rfl rfl)
theorem dX5_rank_12 : decode cX5_rank 12 = .ok (.sipush 406, 3) := dk_17 1 150 (dk_at dksX5_rank_0 12 rfl rfl)
theorem dX5_rank_15 : decode cX5_rank 15 = .ok (.if_icmp .ne 7, 3) := dk_160 0 7 (dk_at dksX5_rank_0 15 rfl rfl)
theorem dX5_rank_18 : decode cX5_rank 18 = .ok (.iconst 2, 1) := dk_5 (dk_at dksX5_rank_0 18 rfl rfl)
theorem dX5_rank_19 : decode cX5_rank 19 = .ok (.goto 20, 3) := dk_167 0 20 (dk_at dksX5_rank_0 19 rfl rfl)
theorem dX5_rank_22 : decode cX5_rank 22 = .ok (.iload_n 0, 1) := dk_26 (dk_at dksX5_rank_0 22 rfl rfl)
theorem dX5_rank_23 : decode cX5_rank 23 = .ok (.bipush 43, 2) := dk_16 43 (dk_at dksX5_rank_1 0 rfl rfl)
theorem dX5_rank_25 : decode cX5_rank 25 = .ok (.if_icmp .eq 9, 3) := dk_159 0 9 (dk_at dksX5_rank_1 2 rfl rfl)
theorem dX5_rank_28 : decode cX5_rank 28 = .ok (.iload_n 0, 1) := dk_26 (dk_at dksX5_rank_1 5 rfl rfl)
theorem dX5_rank_29 : decode cX5_rank 29 = .ok (.bipush 45, 2) := dk_16 45 (dk_at dksX5_rank_1 6 rfl rfl)
theorem dX5_rank_31 : decode cX5_rank 31 = .ok (.if_icmp .ne 7, 3) := dk_160 0 7 (dk_at dksX5_rank_1 8 rfl rfl)
theorem dX5_rank_34 : decode cX5_rank 34 = .ok (.iconst 3, 1) := dk_6 (dk_at dksX5_rank_1 11 rfl rfl)
theorem dX5_rank_35 : decode cX5_rank 35 = .ok (.goto 4, 3) := dk_167 0 4 (dk_at dksX5_rank_1 12 rfl rfl)
theorem dX5_rank_38 : decode cX5_rank 38 = .ok (.iconst 4, 1) := dk_7 (dk_at dksX5_rank_1 15 rfl rfl)
theorem dX5_rank_39 : decode cX5_rank 39 = .ok (.ireturn, 1) := dk_172 (dk_at dksX5_rank_1 16 rfl rfl)
abbrev cX5_works : ByteArray := prog_23_method_25_code
def yX5_works : MethodName := ⟨RX5, "works", "(I)V"⟩
def dkwX5_works_3 : List UInt8 := [167, 255, 189, 177]
abbrev dktX5_works_3 : List UInt8 := dkwX5_works_3 ++ []
def dkwX5_works_2 : List UInt8 := [180, 0, 222, 4, 100, 181, 0, 222, 42, 42, 180, 0, 54, 42, 180, 0, 222, 46, 3, 182, 0, 229]
abbrev dktX5_works_2 : List UInt8 := dkwX5_works_2 ++ dktX5_works_3
def dkwX5_works_1 : List UInt8 := [160, 0, 48, 42, 180, 0, 54, 42, 180, 0, 222, 4, 100, 46, 184, 0, 225, 27, 161, 0, 30, 42, 89]
abbrev dktX5_works_1 : List UInt8 := dkwX5_works_1 ++ dktX5_works_2
def dkwX5_works_0 : List UInt8 := [42, 180, 0, 222, 158, 0, 66, 42, 180, 0, 57, 42, 180, 0, 222, 4, 100, 46, 42, 180, 0, 207]
abbrev dktX5_works_0 : List UInt8 := dkwX5_works_0 ++ dktX5_works_1
theorem dksX5_works_0 : cX5_works.data.toList.drop 0 = dktX5_works_0 := by decide +kernel
theorem dksX5_works_1 : cX5_works.data.toList.drop 22 = dktX5_works_1 := dk_seg dksX5_works_0 22 rfl rfl
theorem dksX5_works_2 : cX5_works.data.toList.drop 45 = dktX5_works_2 := dk_seg dksX5_works_1 23 rfl rfl
theorem dksX5_works_3 : cX5_works.data.toList.drop 67 = dktX5_works_3 := dk_seg dksX5_works_2 22 rfl rfl
theorem dX5_works_0 : decode cX5_works 0 = .ok (.aload_n 0, 1) := dk_42 (dk_at dksX5_works_0 0 rfl rfl)
theorem dX5_works_1 : decode cX5_works 1 = .ok (.getfield 222, 3) := dk_180 0 222 (dk_at dksX5_works_0 1 rfl rfl)
theorem dX5_works_4 : decode cX5_works 4 = .ok (.ifCond .le 66, 3) := dk_158 0 66 (dk_at dksX5_works_0 4 rfl rfl)
theorem dX5_works_7 : decode cX5_works 7 = .ok (.aload_n 0, 1) := dk_42 (dk_at dksX5_works_0 7 rfl rfl)
theorem dX5_works_8 : decode cX5_works 8 = .ok (.getfield 57, 3) := dk_180 0 57 (dk_at dksX5_works_0 8 rfl rfl)
theorem dX5_works_11 : decode cX5_works 11 = .ok (.aload_n 0, 1) := dk_42 (dk_at dksX5_works_0 11 rfl rfl)
theorem dX5_works_12 : decode cX5_works 12 = .ok (.getfield 222, 3) := dk_180 0 222 (dk_at dksX5_works_0 12 rfl rfl)
theorem dX5_works_15 : decode cX5_works 15 = .ok (.iconst 1, 1) := dk_4 (dk_at dksX5_works_0 15 rfl rfl)
theorem dX5_works_16 : decode cX5_works 16 = .ok (.isub, 1) := dk_100 (dk_at dksX5_works_0 16 rfl rfl)
theorem dX5_works_17 : decode cX5_works 17 = .ok (.iaload, 1) := dk_46 (dk_at dksX5_works_0 17 rfl rfl)
theorem dX5_works_18 : decode cX5_works 18 = .ok (.aload_n 0, 1) := dk_42 (dk_at dksX5_works_0 18 rfl rfl)
theorem dX5_works_19 : decode cX5_works 19 = .ok (.getfield 207, 3) := dk_180 0 207 (dk_at dksX5_works_0 19 rfl rfl)
theorem dX5_works_22 : decode cX5_works 22 = .ok (.if_icmp .ne 48, 3) := dk_160 0 48 (dk_at dksX5_works_1 0 rfl rfl)
theorem dX5_works_25 : decode cX5_works 25 = .ok (.aload_n 0, 1) := dk_42 (dk_at dksX5_works_1 3 rfl rfl)
theorem dX5_works_26 : decode cX5_works 26 = .ok (.getfield 54, 3) := dk_180 0 54 (dk_at dksX5_works_1 4 rfl rfl)
theorem dX5_works_29 : decode cX5_works 29 = .ok (.aload_n 0, 1) := dk_42 (dk_at dksX5_works_1 7 rfl rfl)
theorem dX5_works_30 : decode cX5_works 30 = .ok (.getfield 222, 3) := dk_180 0 222 (dk_at dksX5_works_1 8 rfl rfl)
theorem dX5_works_33 : decode cX5_works 33 = .ok (.iconst 1, 1) := dk_4 (dk_at dksX5_works_1 11 rfl rfl)
theorem dX5_works_34 : decode cX5_works 34 = .ok (.isub, 1) := dk_100 (dk_at dksX5_works_1 12 rfl rfl)
theorem dX5_works_35 : decode cX5_works 35 = .ok (.iaload, 1) := dk_46 (dk_at dksX5_works_1 13 rfl rfl)
theorem dX5_works_36 : decode cX5_works 36 = .ok (.invokestatic 225, 3) := dk_184 0 225 (dk_at dksX5_works_1 14 rfl rfl)
theorem dX5_works_39 : decode cX5_works 39 = .ok (.iload_n 1, 1) := dk_27 (dk_at dksX5_works_1 17 rfl rfl)
theorem dX5_works_40 : decode cX5_works 40 = .ok (.if_icmp .lt 30, 3) := dk_161 0 30 (dk_at dksX5_works_1 18 rfl rfl)
theorem dX5_works_43 : decode cX5_works 43 = .ok (.aload_n 0, 1) := dk_42 (dk_at dksX5_works_1 21 rfl rfl)
theorem dX5_works_44 : decode cX5_works 44 = .ok (.dup, 1) := dk_89 (dk_at dksX5_works_1 22 rfl rfl)
theorem dX5_works_45 : decode cX5_works 45 = .ok (.getfield 222, 3) := dk_180 0 222 (dk_at dksX5_works_2 0 rfl rfl)
theorem dX5_works_48 : decode cX5_works 48 = .ok (.iconst 1, 1) := dk_4 (dk_at dksX5_works_2 3 rfl rfl)
theorem dX5_works_49 : decode cX5_works 49 = .ok (.isub, 1) := dk_100 (dk_at dksX5_works_2 4 rfl rfl)
theorem dX5_works_50 : decode cX5_works 50 = .ok (.putfield 222, 3) := dk_181 0 222 (dk_at dksX5_works_2 5 rfl rfl)
theorem dX5_works_53 : decode cX5_works 53 = .ok (.aload_n 0, 1) := dk_42 (dk_at dksX5_works_2 8 rfl rfl)
theorem dX5_works_54 : decode cX5_works 54 = .ok (.aload_n 0, 1) := dk_42 (dk_at dksX5_works_2 9 rfl rfl)
theorem dX5_works_55 : decode cX5_works 55 = .ok (.getfield 54, 3) := dk_180 0 54 (dk_at dksX5_works_2 10 rfl rfl)
theorem dX5_works_58 : decode cX5_works 58 = .ok (.aload_n 0, 1) := dk_42 (dk_at dksX5_works_2 13 rfl rfl)
theorem dX5_works_59 : decode cX5_works 59 = .ok (.getfield 222, 3) := dk_180 0 222 (dk_at dksX5_works_2 14 rfl rfl)
theorem dX5_works_62 : decode cX5_works 62 = .ok (.iaload, 1) := dk_46 (dk_at dksX5_works_2 17 rfl rfl)
theorem dX5_works_63 : decode cX5_works 63 = .ok (.iconst 0, 1) := dk_3 (dk_at dksX5_works_2 18 rfl rfl)
theorem dX5_works_64 : decode cX5_works 64 = .ok (.invokevirtual 229, 3) := dk_182 0 229 (dk_at dksX5_works_2 19 rfl rfl)
theorem dX5_works_67 : decode cX5_works 67 = .ok (.goto (-67), 3) := dk_167 255 189 (dk_at dksX5_works_3 0 rfl rfl)
theorem dX5_works_70 : decode cX5_works 70 = .ok (.return_, 1) := dk_177 (dk_at dksX5_works_3 3 rfl rfl)
abbrev cX5_isAsking : ByteArray := prog_23_method_32_code
def yX5_isAsking : MethodName := ⟨RX5, "isAsking", "(I)Z"⟩
def dkwX5_isAsking_1 : List UInt8 := [26, 17, 1, 44, 159, 0, 10, 26, 17, 1, 45, 160, 0, 7, 4, 167, 0, 4, 3, 172]
abbrev dktX5_isAsking_1 : List UInt8 := dkwX5_isAsking_1 ++ []
def dkwX5_isAsking_0 : List UInt8 := [26, 16, 60, 159, 0, 35, 26, 16, 62, 159, 0, 29, 26, 16, 61, 159, 0, 23, 26, 16, 35, 159, 0, 17]
abbrev dktX5_isAsking_0 : List UInt8 := dkwX5_isAsking_0 ++ dktX5_isAsking_1
theorem dksX5_isAsking_0 : cX5_isAsking.data.toList.drop 0 = dktX5_isAsking_0 := by decide +kernel
theorem dksX5_isAsking_1 : cX5_isAsking.data.toList.drop 24 = dktX5_isAsking_1 := dk_seg dksX5_isAsking_0 24 rfl rfl
theorem dX5_isAsking_0 : decode cX5_isAsking 0 = .ok (.iload_n 0, 1) := dk_26 (dk_at dksX5_isAsking_0 0 rfl rfl)
theorem dX5_isAsking_1 : decode cX5_isAsking 1 = .ok (.bipush 60, 2) := dk_16 60 (dk_at dksX5_isAsking_0 1 rfl rfl)
theorem dX5_isAsking_3 : decode cX5_isAsking 3 = .ok (.if_icmp .eq 35, 3) := dk_159 0 35 (dk_at dksX5_isAsking_0 3 rfl rfl)
theorem dX5_isAsking_6 : decode cX5_isAsking 6 = .ok (.iload_n 0, 1) := dk_26 (dk_at dksX5_isAsking_0 6 rfl rfl)
theorem dX5_isAsking_7 : decode cX5_isAsking 7 = .ok (.bipush 62, 2) := dk_16 62 (dk_at dksX5_isAsking_0 7 rfl rfl)
theorem dX5_isAsking_9 : decode cX5_isAsking 9 = .ok (.if_icmp .eq 29, 3) := dk_159 0 29 (dk_at dksX5_isAsking_0 9 rfl rfl)
theorem dX5_isAsking_12 : decode cX5_isAsking 12 = .ok (.iload_n 0, 1) := dk_26 (dk_at dksX5_isAsking_0 12 rfl rfl)
theorem dX5_isAsking_13 : decode cX5_isAsking 13 = .ok (.bipush 61, 2) := dk_16 61 (dk_at dksX5_isAsking_0 13 rfl rfl)
theorem dX5_isAsking_15 : decode cX5_isAsking 15 = .ok (.if_icmp .eq 23, 3) := dk_159 0 23 (dk_at dksX5_isAsking_0 15 rfl rfl)
theorem dX5_isAsking_18 : decode cX5_isAsking 18 = .ok (.iload_n 0, 1) := dk_26 (dk_at dksX5_isAsking_0 18 rfl rfl)
theorem dX5_isAsking_19 : decode cX5_isAsking 19 = .ok (.bipush 35, 2) := dk_16 35 (dk_at dksX5_isAsking_0 19 rfl rfl)
theorem dX5_isAsking_21 : decode cX5_isAsking 21 = .ok (.if_icmp .eq 17, 3) := dk_159 0 17 (dk_at dksX5_isAsking_0 21 rfl rfl)
theorem dX5_isAsking_24 : decode cX5_isAsking 24 = .ok (.iload_n 0, 1) := dk_26 (dk_at dksX5_isAsking_1 0 rfl rfl)
theorem dX5_isAsking_25 : decode cX5_isAsking 25 = .ok (.sipush 300, 3) := dk_17 1 44 (dk_at dksX5_isAsking_1 1 rfl rfl)
theorem dX5_isAsking_28 : decode cX5_isAsking 28 = .ok (.if_icmp .eq 10, 3) := dk_159 0 10 (dk_at dksX5_isAsking_1 4 rfl rfl)
theorem dX5_isAsking_31 : decode cX5_isAsking 31 = .ok (.iload_n 0, 1) := dk_26 (dk_at dksX5_isAsking_1 7 rfl rfl)
theorem dX5_isAsking_32 : decode cX5_isAsking 32 = .ok (.sipush 301, 3) := dk_17 1 45 (dk_at dksX5_isAsking_1 8 rfl rfl)
theorem dX5_isAsking_35 : decode cX5_isAsking 35 = .ok (.if_icmp .ne 7, 3) := dk_160 0 7 (dk_at dksX5_isAsking_1 11 rfl rfl)
theorem dX5_isAsking_38 : decode cX5_isAsking 38 = .ok (.iconst 1, 1) := dk_4 (dk_at dksX5_isAsking_1 14 rfl rfl)
theorem dX5_isAsking_39 : decode cX5_isAsking 39 = .ok (.goto 4, 3) := dk_167 0 4 (dk_at dksX5_isAsking_1 15 rfl rfl)
theorem dX5_isAsking_42 : decode cX5_isAsking 42 = .ok (.iconst 0, 1) := dk_3 (dk_at dksX5_isAsking_1 18 rfl rfl)
theorem dX5_isAsking_43 : decode cX5_isAsking 43 = .ok (.ireturn, 1) := dk_172 (dk_at dksX5_isAsking_1 19 rfl rfl)
abbrev cX5_askIsOver : ByteArray := prog_23_method_31_code
def yX5_askIsOver : MethodName := ⟨RX5, "askIsOver", "()V"⟩
def dkwX5_askIsOver_1 : List UInt8 := [100, 181, 0, 210, 42, 17, 1, 149, 3, 182, 0, 229, 167, 255, 220, 42, 6, 181, 0, 242, 177]
abbrev dktX5_askIsOver_1 : List UInt8 := dkwX5_askIsOver_1 ++ []
def dkwX5_askIsOver_0 : List UInt8 := [42, 182, 1, 2, 6, 160, 0, 34, 42, 89, 180, 0, 207, 4, 100, 181, 0, 207, 42, 89, 180, 0, 210, 4]
abbrev dktX5_askIsOver_0 : List UInt8 := dkwX5_askIsOver_0 ++ dktX5_askIsOver_1
theorem dksX5_askIsOver_0 : cX5_askIsOver.data.toList.drop 0 = dktX5_askIsOver_0 := by decide +kernel
theorem dksX5_askIsOver_1 : cX5_askIsOver.data.toList.drop 24 = dktX5_askIsOver_1 := dk_seg dksX5_askIsOver_0 24 rfl rfl
theorem dX5_askIsOver_0 : decode cX5_askIsOver 0 = .ok (.aload_n 0, 1) := dk_42 (dk_at dksX5_askIsOver_0 0 rfl rfl)
theorem dX5_askIsOver_1 : decode cX5_askIsOver 1 = .ok (.invokevirtual 258, 3) := dk_182 1 2 (dk_at dksX5_askIsOver_0 1 rfl rfl)
theorem dX5_askIsOver_4 : decode cX5_askIsOver 4 = .ok (.iconst 3, 1) := dk_6 (dk_at dksX5_askIsOver_0 4 rfl rfl)
theorem dX5_askIsOver_5 : decode cX5_askIsOver 5 = .ok (.if_icmp .ne 34, 3) := dk_160 0 34 (dk_at dksX5_askIsOver_0 5 rfl rfl)
theorem dX5_askIsOver_8 : decode cX5_askIsOver 8 = .ok (.aload_n 0, 1) := dk_42 (dk_at dksX5_askIsOver_0 8 rfl rfl)
theorem dX5_askIsOver_9 : decode cX5_askIsOver 9 = .ok (.dup, 1) := dk_89 (dk_at dksX5_askIsOver_0 9 rfl rfl)
theorem dX5_askIsOver_10 : decode cX5_askIsOver 10 = .ok (.getfield 207, 3) := dk_180 0 207 (dk_at dksX5_askIsOver_0 10 rfl rfl)
theorem dX5_askIsOver_13 : decode cX5_askIsOver 13 = .ok (.iconst 1, 1) := dk_4 (dk_at dksX5_askIsOver_0 13 rfl rfl)
theorem dX5_askIsOver_14 : decode cX5_askIsOver 14 = .ok (.isub, 1) := dk_100 (dk_at dksX5_askIsOver_0 14 rfl rfl)
theorem dX5_askIsOver_15 : decode cX5_askIsOver 15 = .ok (.putfield 207, 3) := dk_181 0 207 (dk_at dksX5_askIsOver_0 15 rfl rfl)
theorem dX5_askIsOver_18 : decode cX5_askIsOver 18 = .ok (.aload_n 0, 1) := dk_42 (dk_at dksX5_askIsOver_0 18 rfl rfl)
theorem dX5_askIsOver_19 : decode cX5_askIsOver 19 = .ok (.dup, 1) := dk_89 (dk_at dksX5_askIsOver_0 19 rfl rfl)
theorem dX5_askIsOver_20 : decode cX5_askIsOver 20 = .ok (.getfield 210, 3) := dk_180 0 210 (dk_at dksX5_askIsOver_0 20 rfl rfl)
theorem dX5_askIsOver_23 : decode cX5_askIsOver 23 = .ok (.iconst 1, 1) := dk_4 (dk_at dksX5_askIsOver_0 23 rfl rfl)
theorem dX5_askIsOver_24 : decode cX5_askIsOver 24 = .ok (.isub, 1) := dk_100 (dk_at dksX5_askIsOver_1 0 rfl rfl)
theorem dX5_askIsOver_25 : decode cX5_askIsOver 25 = .ok (.putfield 210, 3) := dk_181 0 210 (dk_at dksX5_askIsOver_1 1 rfl rfl)
theorem dX5_askIsOver_28 : decode cX5_askIsOver 28 = .ok (.aload_n 0, 1) := dk_42 (dk_at dksX5_askIsOver_1 4 rfl rfl)
theorem dX5_askIsOver_29 : decode cX5_askIsOver 29 = .ok (.sipush 405, 3) := dk_17 1 149 (dk_at dksX5_askIsOver_1 5 rfl rfl)
theorem dX5_askIsOver_32 : decode cX5_askIsOver 32 = .ok (.iconst 0, 1) := dk_3 (dk_at dksX5_askIsOver_1 8 rfl rfl)
theorem dX5_askIsOver_33 : decode cX5_askIsOver 33 = .ok (.invokevirtual 229, 3) := dk_182 0 229 (dk_at dksX5_askIsOver_1 9 rfl rfl)
theorem dX5_askIsOver_36 : decode cX5_askIsOver 36 = .ok (.goto (-36), 3) := dk_167 255 220 (dk_at dksX5_askIsOver_1 12 rfl rfl)
theorem dX5_askIsOver_39 : decode cX5_askIsOver 39 = .ok (.aload_n 0, 1) := dk_42 (dk_at dksX5_askIsOver_1 15 rfl rfl)
theorem dX5_askIsOver_40 : decode cX5_askIsOver 40 = .ok (.iconst 3, 1) := dk_6 (dk_at dksX5_askIsOver_1 16 rfl rfl)
theorem dX5_askIsOver_41 : decode cX5_askIsOver 41 = .ok (.putfield 242, 3) := dk_181 0 242 (dk_at dksX5_askIsOver_1 17 rfl rfl)
theorem dX5_askIsOver_44 : decode cX5_askIsOver 44 = .ok (.return_, 1) := dk_177 (dk_at dksX5_askIsOver_1 20 rfl rfl)
abbrev cX5_clauseIsOver : ByteArray := prog_23_method_35_code
def yX5_clauseIsOver : MethodName := ⟨RX5, "clauseIsOver", "()V"⟩
def dkwX5_clauseIsOver_1 : List UInt8 := [96, 181, 1, 18, 42, 182, 0, 219, 42, 7, 181, 0, 242, 177]
abbrev dktX5_clauseIsOver_1 : List UInt8 := dkwX5_clauseIsOver_1 ++ []
def dkwX5_clauseIsOver_0 : List UInt8 := [42, 4, 182, 0, 233, 42, 3, 181, 0, 207, 42, 17, 1, 152, 3, 182, 0, 229, 42, 89, 180, 1, 18, 4]
abbrev dktX5_clauseIsOver_0 : List UInt8 := dkwX5_clauseIsOver_0 ++ dktX5_clauseIsOver_1
theorem dksX5_clauseIsOver_0 : cX5_clauseIsOver.data.toList.drop 0 = dktX5_clauseIsOver_0 := by decide +kernel
theorem dksX5_clauseIsOver_1 : cX5_clauseIsOver.data.toList.drop 24 = dktX5_clauseIsOver_1 := dk_seg dksX5_clauseIsOver_0 24 rfl rfl
theorem dX5_clauseIsOver_0 : decode cX5_clauseIsOver 0 = .ok (.aload_n 0, 1) := dk_42 (dk_at dksX5_clauseIsOver_0 0 rfl rfl)
theorem dX5_clauseIsOver_1 : decode cX5_clauseIsOver 1 = .ok (.iconst 1, 1) := dk_4 (dk_at dksX5_clauseIsOver_0 1 rfl rfl)
theorem dX5_clauseIsOver_2 : decode cX5_clauseIsOver 2 = .ok (.invokevirtual 233, 3) := dk_182 0 233 (dk_at dksX5_clauseIsOver_0 2 rfl rfl)
theorem dX5_clauseIsOver_5 : decode cX5_clauseIsOver 5 = .ok (.aload_n 0, 1) := dk_42 (dk_at dksX5_clauseIsOver_0 5 rfl rfl)
theorem dX5_clauseIsOver_6 : decode cX5_clauseIsOver 6 = .ok (.iconst 0, 1) := dk_3 (dk_at dksX5_clauseIsOver_0 6 rfl rfl)
theorem dX5_clauseIsOver_7 : decode cX5_clauseIsOver 7 = .ok (.putfield 207, 3) := dk_181 0 207 (dk_at dksX5_clauseIsOver_0 7 rfl rfl)
theorem dX5_clauseIsOver_10 : decode cX5_clauseIsOver 10 = .ok (.aload_n 0, 1) := dk_42 (dk_at dksX5_clauseIsOver_0 10 rfl rfl)
theorem dX5_clauseIsOver_11 : decode cX5_clauseIsOver 11 = .ok (.sipush 408, 3) := dk_17 1 152 (dk_at dksX5_clauseIsOver_0 11 rfl rfl)
theorem dX5_clauseIsOver_14 : decode cX5_clauseIsOver 14 = .ok (.iconst 0, 1) := dk_3 (dk_at dksX5_clauseIsOver_0 14 rfl rfl)
theorem dX5_clauseIsOver_15 : decode cX5_clauseIsOver 15 = .ok (.invokevirtual 229, 3) := dk_182 0 229 (dk_at dksX5_clauseIsOver_0 15 rfl rfl)
theorem dX5_clauseIsOver_18 : decode cX5_clauseIsOver 18 = .ok (.aload_n 0, 1) := dk_42 (dk_at dksX5_clauseIsOver_0 18 rfl rfl)
theorem dX5_clauseIsOver_19 : decode cX5_clauseIsOver 19 = .ok (.dup, 1) := dk_89 (dk_at dksX5_clauseIsOver_0 19 rfl rfl)
theorem dX5_clauseIsOver_20 : decode cX5_clauseIsOver 20 = .ok (.getfield 274, 3) := dk_180 1 18 (dk_at dksX5_clauseIsOver_0 20 rfl rfl)
theorem dX5_clauseIsOver_23 : decode cX5_clauseIsOver 23 = .ok (.iconst 1, 1) := dk_4 (dk_at dksX5_clauseIsOver_0 23 rfl rfl)
theorem dX5_clauseIsOver_24 : decode cX5_clauseIsOver 24 = .ok (.iadd, 1) := dk_96 (dk_at dksX5_clauseIsOver_1 0 rfl rfl)
theorem dX5_clauseIsOver_25 : decode cX5_clauseIsOver 25 = .ok (.putfield 274, 3) := dk_181 1 18 (dk_at dksX5_clauseIsOver_1 1 rfl rfl)
theorem dX5_clauseIsOver_28 : decode cX5_clauseIsOver 28 = .ok (.aload_n 0, 1) := dk_42 (dk_at dksX5_clauseIsOver_1 4 rfl rfl)
theorem dX5_clauseIsOver_29 : decode cX5_clauseIsOver 29 = .ok (.invokevirtual 219, 3) := dk_182 0 219 (dk_at dksX5_clauseIsOver_1 5 rfl rfl)
theorem dX5_clauseIsOver_32 : decode cX5_clauseIsOver 32 = .ok (.aload_n 0, 1) := dk_42 (dk_at dksX5_clauseIsOver_1 8 rfl rfl)
theorem dX5_clauseIsOver_33 : decode cX5_clauseIsOver 33 = .ok (.iconst 4, 1) := dk_7 (dk_at dksX5_clauseIsOver_1 9 rfl rfl)
theorem dX5_clauseIsOver_34 : decode cX5_clauseIsOver 34 = .ok (.putfield 242, 3) := dk_181 0 242 (dk_at dksX5_clauseIsOver_1 10 rfl rfl)
theorem dX5_clauseIsOver_37 : decode cX5_clauseIsOver 37 = .ok (.return_, 1) := dk_177 (dk_at dksX5_clauseIsOver_1 13 rfl rfl)
abbrev cX5_asksOn : ByteArray := prog_23_method_34_code
def yX5_asksOn : MethodName := ⟨RX5, "asksOn", "()V"⟩
def dkwX5_asksOn_3 : List UInt8 := [167, 0, 8, 42, 4, 182, 0, 213, 177]
abbrev dktX5_asksOn_3 : List UInt8 := dkwX5_asksOn_3 ++ []
def dkwX5_asksOn_2 : List UInt8 := [167, 0, 32, 42, 182, 1, 2, 5, 160, 0, 19, 42, 16, 59, 182, 0, 255, 153, 0, 10, 42, 182, 1, 15]
abbrev dktX5_asksOn_2 : List UInt8 := dkwX5_asksOn_2 ++ dktX5_asksOn_3
def dkwX5_asksOn_1 : List UInt8 := [182, 0, 236, 153, 0, 9, 17, 1, 151, 167, 0, 6, 17, 1, 150, 182, 1, 6, 42, 3, 181, 0, 242]
abbrev dktX5_asksOn_1 : List UInt8 := dkwX5_asksOn_1 ++ dktX5_asksOn_2
def dkwX5_asksOn_0 : List UInt8 := [42, 16, 9, 182, 0, 236, 154, 0, 12, 42, 16, 10, 182, 0, 236, 153, 0, 33, 42, 42, 16, 9]
abbrev dktX5_asksOn_0 : List UInt8 := dkwX5_asksOn_0 ++ dktX5_asksOn_1
theorem dksX5_asksOn_0 : cX5_asksOn.data.toList.drop 0 = dktX5_asksOn_0 := by decide +kernel
theorem dksX5_asksOn_1 : cX5_asksOn.data.toList.drop 22 = dktX5_asksOn_1 := dk_seg dksX5_asksOn_0 22 rfl rfl
theorem dksX5_asksOn_2 : cX5_asksOn.data.toList.drop 45 = dktX5_asksOn_2 := dk_seg dksX5_asksOn_1 23 rfl rfl
theorem dksX5_asksOn_3 : cX5_asksOn.data.toList.drop 69 = dktX5_asksOn_3 := dk_seg dksX5_asksOn_2 24 rfl rfl
theorem dX5_asksOn_0 : decode cX5_asksOn 0 = .ok (.aload_n 0, 1) := dk_42 (dk_at dksX5_asksOn_0 0 rfl rfl)
theorem dX5_asksOn_1 : decode cX5_asksOn 1 = .ok (.bipush 9, 2) := dk_16 9 (dk_at dksX5_asksOn_0 1 rfl rfl)
theorem dX5_asksOn_3 : decode cX5_asksOn 3 = .ok (.invokevirtual 236, 3) := dk_182 0 236 (dk_at dksX5_asksOn_0 3 rfl rfl)
theorem dX5_asksOn_6 : decode cX5_asksOn 6 = .ok (.ifCond .ne 12, 3) := dk_154 0 12 (dk_at dksX5_asksOn_0 6 rfl rfl)
theorem dX5_asksOn_9 : decode cX5_asksOn 9 = .ok (.aload_n 0, 1) := dk_42 (dk_at dksX5_asksOn_0 9 rfl rfl)
theorem dX5_asksOn_10 : decode cX5_asksOn 10 = .ok (.bipush 10, 2) := dk_16 10 (dk_at dksX5_asksOn_0 10 rfl rfl)
theorem dX5_asksOn_12 : decode cX5_asksOn 12 = .ok (.invokevirtual 236, 3) := dk_182 0 236 (dk_at dksX5_asksOn_0 12 rfl rfl)
theorem dX5_asksOn_15 : decode cX5_asksOn 15 = .ok (.ifCond .eq 33, 3) := dk_153 0 33 (dk_at dksX5_asksOn_0 15 rfl rfl)
theorem dX5_asksOn_18 : decode cX5_asksOn 18 = .ok (.aload_n 0, 1) := dk_42 (dk_at dksX5_asksOn_0 18 rfl rfl)
theorem dX5_asksOn_19 : decode cX5_asksOn 19 = .ok (.aload_n 0, 1) := dk_42 (dk_at dksX5_asksOn_0 19 rfl rfl)
theorem dX5_asksOn_20 : decode cX5_asksOn 20 = .ok (.bipush 9, 2) := dk_16 9 (dk_at dksX5_asksOn_0 20 rfl rfl)
theorem dX5_asksOn_22 : decode cX5_asksOn 22 = .ok (.invokevirtual 236, 3) := dk_182 0 236 (dk_at dksX5_asksOn_1 0 rfl rfl)
theorem dX5_asksOn_25 : decode cX5_asksOn 25 = .ok (.ifCond .eq 9, 3) := dk_153 0 9 (dk_at dksX5_asksOn_1 3 rfl rfl)
theorem dX5_asksOn_28 : decode cX5_asksOn 28 = .ok (.sipush 407, 3) := dk_17 1 151 (dk_at dksX5_asksOn_1 6 rfl rfl)
theorem dX5_asksOn_31 : decode cX5_asksOn 31 = .ok (.goto 6, 3) := dk_167 0 6 (dk_at dksX5_asksOn_1 9 rfl rfl)
theorem dX5_asksOn_34 : decode cX5_asksOn 34 = .ok (.sipush 406, 3) := dk_17 1 150 (dk_at dksX5_asksOn_1 12 rfl rfl)
theorem dX5_asksOn_37 : decode cX5_asksOn 37 = .ok (.invokevirtual 262, 3) := dk_182 1 6 (dk_at dksX5_asksOn_1 15 rfl rfl)
theorem dX5_asksOn_40 : decode cX5_asksOn 40 = .ok (.aload_n 0, 1) := dk_42 (dk_at dksX5_asksOn_1 18 rfl rfl)
theorem dX5_asksOn_41 : decode cX5_asksOn 41 = .ok (.iconst 0, 1) := dk_3 (dk_at dksX5_asksOn_1 19 rfl rfl)
theorem dX5_asksOn_42 : decode cX5_asksOn 42 = .ok (.putfield 242, 3) := dk_181 0 242 (dk_at dksX5_asksOn_1 20 rfl rfl)
theorem dX5_asksOn_45 : decode cX5_asksOn 45 = .ok (.goto 32, 3) := dk_167 0 32 (dk_at dksX5_asksOn_2 0 rfl rfl)
theorem dX5_asksOn_48 : decode cX5_asksOn 48 = .ok (.aload_n 0, 1) := dk_42 (dk_at dksX5_asksOn_2 3 rfl rfl)
theorem dX5_asksOn_49 : decode cX5_asksOn 49 = .ok (.invokevirtual 258, 3) := dk_182 1 2 (dk_at dksX5_asksOn_2 4 rfl rfl)
theorem dX5_asksOn_52 : decode cX5_asksOn 52 = .ok (.iconst 2, 1) := dk_5 (dk_at dksX5_asksOn_2 7 rfl rfl)
theorem dX5_asksOn_53 : decode cX5_asksOn 53 = .ok (.if_icmp .ne 19, 3) := dk_160 0 19 (dk_at dksX5_asksOn_2 8 rfl rfl)
theorem dX5_asksOn_56 : decode cX5_asksOn 56 = .ok (.aload_n 0, 1) := dk_42 (dk_at dksX5_asksOn_2 11 rfl rfl)
theorem dX5_asksOn_57 : decode cX5_asksOn 57 = .ok (.bipush 59, 2) := dk_16 59 (dk_at dksX5_asksOn_2 12 rfl rfl)
theorem dX5_asksOn_59 : decode cX5_asksOn 59 = .ok (.invokevirtual 255, 3) := dk_182 0 255 (dk_at dksX5_asksOn_2 14 rfl rfl)
theorem dX5_asksOn_62 : decode cX5_asksOn 62 = .ok (.ifCond .eq 10, 3) := dk_153 0 10 (dk_at dksX5_asksOn_2 17 rfl rfl)
theorem dX5_asksOn_65 : decode cX5_asksOn 65 = .ok (.aload_n 0, 1) := dk_42 (dk_at dksX5_asksOn_2 20 rfl rfl)
theorem dX5_asksOn_66 : decode cX5_asksOn 66 = .ok (.invokevirtual 271, 3) := dk_182 1 15 (dk_at dksX5_asksOn_2 21 rfl rfl)
theorem dX5_asksOn_69 : decode cX5_asksOn 69 = .ok (.goto 8, 3) := dk_167 0 8 (dk_at dksX5_asksOn_3 0 rfl rfl)
theorem dX5_asksOn_72 : decode cX5_asksOn 72 = .ok (.aload_n 0, 1) := dk_42 (dk_at dksX5_asksOn_3 3 rfl rfl)
theorem dX5_asksOn_73 : decode cX5_asksOn 73 = .ok (.iconst 1, 1) := dk_4 (dk_at dksX5_asksOn_3 4 rfl rfl)
theorem dX5_asksOn_74 : decode cX5_asksOn 74 = .ok (.invokevirtual 213, 3) := dk_182 0 213 (dk_at dksX5_asksOn_3 5 rfl rfl)
theorem dX5_asksOn_77 : decode cX5_asksOn 77 = .ok (.return_, 1) := dk_177 (dk_at dksX5_asksOn_3 8 rfl rfl)
abbrev cX5_clause : ByteArray := prog_23_method_39_code
def yX5_clause : MethodName := ⟨RX5, "clause", "()V"⟩
def dkwX5_clause_13 : List UInt8 := [182, 0, 213, 42, 180, 0, 198, 154, 0, 7, 42, 182, 1, 15, 177]
abbrev dktX5_clause_13 : List UInt8 := dkwX5_clause_13 ++ []
def dkwX5_clause_12 : List UInt8 := [182, 1, 24, 79, 42, 180, 0, 198, 154, 0, 17, 42, 16, 59, 182, 0, 255, 154, 0, 8, 42, 4]
abbrev dktX5_clause_12 : List UInt8 := dkwX5_clause_12 ++ dktX5_clause_13
def dkwX5_clause_11 : List UInt8 := [180, 0, 69, 42, 180, 1, 18, 42, 3, 42, 180, 0, 248, 6, 160, 0, 7, 5, 167, 0, 4, 4]
abbrev dktX5_clause_11 : List UInt8 := dkwX5_clause_11 ++ dktX5_clause_12
def dkwX5_clause_10 : List UInt8 := [160, 0, 49, 42, 42, 180, 0, 248, 6, 160, 0, 8, 16, 7, 167, 0, 5, 16, 8, 182, 1, 28, 42]
abbrev dktX5_clause_10 : List UInt8 := dkwX5_clause_10 ++ dktX5_clause_11
def dkwX5_clause_9 : List UInt8 := [167, 0, 5, 16, 8, 182, 1, 24, 79, 42, 180, 0, 248, 6, 159, 0, 11, 42, 180, 0, 248, 7]
abbrev dktX5_clause_9 : List UInt8 := dkwX5_clause_9 ++ dktX5_clause_10
def dkwX5_clause_8 : List UInt8 := [160, 0, 13, 42, 4, 16, 40, 182, 1, 24, 167, 0, 22, 42, 3, 42, 180, 0, 248, 8, 160, 0, 7, 4]
abbrev dktX5_clause_8 : List UInt8 := dkwX5_clause_8 ++ dktX5_clause_9
def dkwX5_clause_7 : List UInt8 := [3, 167, 0, 4, 4, 181, 0, 242, 177, 42, 180, 0, 66, 42, 180, 1, 18, 42, 180, 0, 248, 16, 6]
abbrev dktX5_clause_7 : List UInt8 := dkwX5_clause_7 ++ dktX5_clause_8
def dkwX5_clause_6 : List UInt8 := [180, 0, 248, 5, 160, 0, 7, 5, 167, 0, 4, 4, 182, 0, 216, 42, 42, 180, 0, 248, 5, 160, 0, 7]
abbrev dktX5_clause_6 : List UInt8 := dkwX5_clause_6 ++ dktX5_clause_7
def dkwX5_clause_5 : List UInt8 := [180, 0, 69, 42, 180, 1, 18, 2, 79, 42, 182, 0, 219, 42, 180, 0, 248, 5, 163, 0, 38, 42, 42]
abbrev dktX5_clause_5 : List UInt8 := dkwX5_clause_5 ++ dktX5_clause_6
def dkwX5_clause_4 : List UInt8 := [42, 180, 0, 63, 42, 180, 1, 18, 42, 180, 0, 204, 79, 42, 180, 0, 66, 42, 180, 1, 18, 2, 79, 42]
abbrev dktX5_clause_4 : List UInt8 := dkwX5_clause_4 ++ dktX5_clause_5
def dkwX5_clause_3 : List UInt8 := [182, 0, 213, 42, 180, 0, 198, 158, 0, 4, 177, 42, 180, 0, 60, 42, 180, 1, 18, 42, 180, 0, 248, 79]
abbrev dktX5_clause_3 : List UInt8 := dkwX5_clause_3 ++ dktX5_clause_4
def dkwX5_clause_2 : List UInt8 := [153, 0, 11, 42, 7, 182, 0, 213, 167, 0, 18, 42, 180, 1, 18, 16, 24, 160, 0, 9, 42, 16, 6]
abbrev dktX5_clause_2 : List UInt8 := dkwX5_clause_2 ++ dktX5_clause_3
def dkwX5_clause_1 : List UInt8 := [42, 180, 0, 194, 181, 0, 248, 42, 180, 0, 248, 5, 163, 0, 22, 42, 42, 180, 0, 248, 182, 1, 21]
abbrev dktX5_clause_1 : List UInt8 := dkwX5_clause_1 ++ dktX5_clause_2
def dkwX5_clause_0 : List UInt8 := [42, 180, 0, 182, 4, 160, 0, 12, 42, 180, 0, 194, 16, 6, 164, 0, 9, 42, 4, 182, 0, 213, 177, 42]
abbrev dktX5_clause_0 : List UInt8 := dkwX5_clause_0 ++ dktX5_clause_1
theorem dksX5_clause_0 : cX5_clause.data.toList.drop 0 = dktX5_clause_0 := by decide +kernel
theorem dksX5_clause_1 : cX5_clause.data.toList.drop 24 = dktX5_clause_1 := dk_seg dksX5_clause_0 24 rfl rfl
theorem dksX5_clause_2 : cX5_clause.data.toList.drop 47 = dktX5_clause_2 := dk_seg dksX5_clause_1 23 rfl rfl
theorem dksX5_clause_3 : cX5_clause.data.toList.drop 70 = dktX5_clause_3 := dk_seg dksX5_clause_2 23 rfl rfl
theorem dksX5_clause_4 : cX5_clause.data.toList.drop 94 = dktX5_clause_4 := dk_seg dksX5_clause_3 24 rfl rfl
theorem dksX5_clause_5 : cX5_clause.data.toList.drop 118 = dktX5_clause_5 := dk_seg dksX5_clause_4 24 rfl rfl
theorem dksX5_clause_6 : cX5_clause.data.toList.drop 141 = dktX5_clause_6 := dk_seg dksX5_clause_5 23 rfl rfl
theorem dksX5_clause_7 : cX5_clause.data.toList.drop 165 = dktX5_clause_7 := dk_seg dksX5_clause_6 24 rfl rfl
theorem dksX5_clause_8 : cX5_clause.data.toList.drop 188 = dktX5_clause_8 := dk_seg dksX5_clause_7 23 rfl rfl
theorem dksX5_clause_9 : cX5_clause.data.toList.drop 212 = dktX5_clause_9 := dk_seg dksX5_clause_8 24 rfl rfl
theorem dksX5_clause_10 : cX5_clause.data.toList.drop 234 = dktX5_clause_10 := dk_seg dksX5_clause_9 22 rfl rfl
theorem dksX5_clause_11 : cX5_clause.data.toList.drop 257 = dktX5_clause_11 := dk_seg dksX5_clause_10 23 rfl rfl
theorem dksX5_clause_12 : cX5_clause.data.toList.drop 279 = dktX5_clause_12 := dk_seg dksX5_clause_11 22 rfl rfl
theorem dksX5_clause_13 : cX5_clause.data.toList.drop 301 = dktX5_clause_13 := dk_seg dksX5_clause_12 22 rfl rfl
theorem dX5_clause_0 : decode cX5_clause 0 = .ok (.aload_n 0, 1) := dk_42 (dk_at dksX5_clause_0 0 rfl rfl)
theorem dX5_clause_1 : decode cX5_clause 1 = .ok (.getfield 182, 3) := dk_180 0 182 (dk_at dksX5_clause_0 1 rfl rfl)
theorem dX5_clause_4 : decode cX5_clause 4 = .ok (.iconst 1, 1) := dk_4 (dk_at dksX5_clause_0 4 rfl rfl)
theorem dX5_clause_5 : decode cX5_clause 5 = .ok (.if_icmp .ne 12, 3) := dk_160 0 12 (dk_at dksX5_clause_0 5 rfl rfl)
theorem dX5_clause_8 : decode cX5_clause 8 = .ok (.aload_n 0, 1) := dk_42 (dk_at dksX5_clause_0 8 rfl rfl)
theorem dX5_clause_9 : decode cX5_clause 9 = .ok (.getfield 194, 3) := dk_180 0 194 (dk_at dksX5_clause_0 9 rfl rfl)
theorem dX5_clause_12 : decode cX5_clause 12 = .ok (.bipush 6, 2) := dk_16 6 (dk_at dksX5_clause_0 12 rfl rfl)
theorem dX5_clause_14 : decode cX5_clause 14 = .ok (.if_icmp .le 9, 3) := dk_164 0 9 (dk_at dksX5_clause_0 14 rfl rfl)
theorem dX5_clause_17 : decode cX5_clause 17 = .ok (.aload_n 0, 1) := dk_42 (dk_at dksX5_clause_0 17 rfl rfl)
theorem dX5_clause_18 : decode cX5_clause 18 = .ok (.iconst 1, 1) := dk_4 (dk_at dksX5_clause_0 18 rfl rfl)
theorem dX5_clause_19 : decode cX5_clause 19 = .ok (.invokevirtual 213, 3) := dk_182 0 213 (dk_at dksX5_clause_0 19 rfl rfl)
theorem dX5_clause_22 : decode cX5_clause 22 = .ok (.return_, 1) := dk_177 (dk_at dksX5_clause_0 22 rfl rfl)
theorem dX5_clause_23 : decode cX5_clause 23 = .ok (.aload_n 0, 1) := dk_42 (dk_at dksX5_clause_0 23 rfl rfl)
theorem dX5_clause_24 : decode cX5_clause 24 = .ok (.aload_n 0, 1) := dk_42 (dk_at dksX5_clause_1 0 rfl rfl)
theorem dX5_clause_25 : decode cX5_clause 25 = .ok (.getfield 194, 3) := dk_180 0 194 (dk_at dksX5_clause_1 1 rfl rfl)
theorem dX5_clause_28 : decode cX5_clause 28 = .ok (.putfield 248, 3) := dk_181 0 248 (dk_at dksX5_clause_1 4 rfl rfl)
theorem dX5_clause_31 : decode cX5_clause 31 = .ok (.aload_n 0, 1) := dk_42 (dk_at dksX5_clause_1 7 rfl rfl)
theorem dX5_clause_32 : decode cX5_clause 32 = .ok (.getfield 248, 3) := dk_180 0 248 (dk_at dksX5_clause_1 8 rfl rfl)
theorem dX5_clause_35 : decode cX5_clause 35 = .ok (.iconst 2, 1) := dk_5 (dk_at dksX5_clause_1 11 rfl rfl)
theorem dX5_clause_36 : decode cX5_clause 36 = .ok (.if_icmp .gt 22, 3) := dk_163 0 22 (dk_at dksX5_clause_1 12 rfl rfl)
theorem dX5_clause_39 : decode cX5_clause 39 = .ok (.aload_n 0, 1) := dk_42 (dk_at dksX5_clause_1 15 rfl rfl)
theorem dX5_clause_40 : decode cX5_clause 40 = .ok (.aload_n 0, 1) := dk_42 (dk_at dksX5_clause_1 16 rfl rfl)
theorem dX5_clause_41 : decode cX5_clause 41 = .ok (.getfield 248, 3) := dk_180 0 248 (dk_at dksX5_clause_1 17 rfl rfl)
theorem dX5_clause_44 : decode cX5_clause 44 = .ok (.invokevirtual 277, 3) := dk_182 1 21 (dk_at dksX5_clause_1 20 rfl rfl)
theorem dX5_clause_47 : decode cX5_clause 47 = .ok (.ifCond .eq 11, 3) := dk_153 0 11 (dk_at dksX5_clause_2 0 rfl rfl)
theorem dX5_clause_50 : decode cX5_clause 50 = .ok (.aload_n 0, 1) := dk_42 (dk_at dksX5_clause_2 3 rfl rfl)
theorem dX5_clause_51 : decode cX5_clause 51 = .ok (.iconst 4, 1) := dk_7 (dk_at dksX5_clause_2 4 rfl rfl)
theorem dX5_clause_52 : decode cX5_clause 52 = .ok (.invokevirtual 213, 3) := dk_182 0 213 (dk_at dksX5_clause_2 5 rfl rfl)
theorem dX5_clause_55 : decode cX5_clause 55 = .ok (.goto 18, 3) := dk_167 0 18 (dk_at dksX5_clause_2 8 rfl rfl)
theorem dX5_clause_58 : decode cX5_clause 58 = .ok (.aload_n 0, 1) := dk_42 (dk_at dksX5_clause_2 11 rfl rfl)
theorem dX5_clause_59 : decode cX5_clause 59 = .ok (.getfield 274, 3) := dk_180 1 18 (dk_at dksX5_clause_2 12 rfl rfl)
theorem dX5_clause_62 : decode cX5_clause 62 = .ok (.bipush 24, 2) := dk_16 24 (dk_at dksX5_clause_2 15 rfl rfl)
theorem dX5_clause_64 : decode cX5_clause 64 = .ok (.if_icmp .ne 9, 3) := dk_160 0 9 (dk_at dksX5_clause_2 17 rfl rfl)
theorem dX5_clause_67 : decode cX5_clause 67 = .ok (.aload_n 0, 1) := dk_42 (dk_at dksX5_clause_2 20 rfl rfl)
theorem dX5_clause_68 : decode cX5_clause 68 = .ok (.bipush 6, 2) := dk_16 6 (dk_at dksX5_clause_2 21 rfl rfl)
theorem dX5_clause_70 : decode cX5_clause 70 = .ok (.invokevirtual 213, 3) := dk_182 0 213 (dk_at dksX5_clause_3 0 rfl rfl)
theorem dX5_clause_73 : decode cX5_clause 73 = .ok (.aload_n 0, 1) := dk_42 (dk_at dksX5_clause_3 3 rfl rfl)
theorem dX5_clause_74 : decode cX5_clause 74 = .ok (.getfield 198, 3) := dk_180 0 198 (dk_at dksX5_clause_3 4 rfl rfl)
theorem dX5_clause_77 : decode cX5_clause 77 = .ok (.ifCond .le 4, 3) := dk_158 0 4 (dk_at dksX5_clause_3 7 rfl rfl)
theorem dX5_clause_80 : decode cX5_clause 80 = .ok (.return_, 1) := dk_177 (dk_at dksX5_clause_3 10 rfl rfl)
theorem dX5_clause_81 : decode cX5_clause 81 = .ok (.aload_n 0, 1) := dk_42 (dk_at dksX5_clause_3 11 rfl rfl)
theorem dX5_clause_82 : decode cX5_clause 82 = .ok (.getfield 60, 3) := dk_180 0 60 (dk_at dksX5_clause_3 12 rfl rfl)
theorem dX5_clause_85 : decode cX5_clause 85 = .ok (.aload_n 0, 1) := dk_42 (dk_at dksX5_clause_3 15 rfl rfl)
theorem dX5_clause_86 : decode cX5_clause 86 = .ok (.getfield 274, 3) := dk_180 1 18 (dk_at dksX5_clause_3 16 rfl rfl)
theorem dX5_clause_89 : decode cX5_clause 89 = .ok (.aload_n 0, 1) := dk_42 (dk_at dksX5_clause_3 19 rfl rfl)
theorem dX5_clause_90 : decode cX5_clause 90 = .ok (.getfield 248, 3) := dk_180 0 248 (dk_at dksX5_clause_3 20 rfl rfl)
theorem dX5_clause_93 : decode cX5_clause 93 = .ok (.iastore, 1) := dk_79 (dk_at dksX5_clause_3 23 rfl rfl)
theorem dX5_clause_94 : decode cX5_clause 94 = .ok (.aload_n 0, 1) := dk_42 (dk_at dksX5_clause_4 0 rfl rfl)
theorem dX5_clause_95 : decode cX5_clause 95 = .ok (.getfield 63, 3) := dk_180 0 63 (dk_at dksX5_clause_4 1 rfl rfl)
theorem dX5_clause_98 : decode cX5_clause 98 = .ok (.aload_n 0, 1) := dk_42 (dk_at dksX5_clause_4 4 rfl rfl)
theorem dX5_clause_99 : decode cX5_clause 99 = .ok (.getfield 274, 3) := dk_180 1 18 (dk_at dksX5_clause_4 5 rfl rfl)
theorem dX5_clause_102 : decode cX5_clause 102 = .ok (.aload_n 0, 1) := dk_42 (dk_at dksX5_clause_4 8 rfl rfl)
theorem dX5_clause_103 : decode cX5_clause 103 = .ok (.getfield 204, 3) := dk_180 0 204 (dk_at dksX5_clause_4 9 rfl rfl)
theorem dX5_clause_106 : decode cX5_clause 106 = .ok (.iastore, 1) := dk_79 (dk_at dksX5_clause_4 12 rfl rfl)
theorem dX5_clause_107 : decode cX5_clause 107 = .ok (.aload_n 0, 1) := dk_42 (dk_at dksX5_clause_4 13 rfl rfl)
theorem dX5_clause_108 : decode cX5_clause 108 = .ok (.getfield 66, 3) := dk_180 0 66 (dk_at dksX5_clause_4 14 rfl rfl)
theorem dX5_clause_111 : decode cX5_clause 111 = .ok (.aload_n 0, 1) := dk_42 (dk_at dksX5_clause_4 17 rfl rfl)
theorem dX5_clause_112 : decode cX5_clause 112 = .ok (.getfield 274, 3) := dk_180 1 18 (dk_at dksX5_clause_4 18 rfl rfl)
theorem dX5_clause_115 : decode cX5_clause 115 = .ok (.iconst (-1), 1) := dk_2 (dk_at dksX5_clause_4 21 rfl rfl)
theorem dX5_clause_116 : decode cX5_clause 116 = .ok (.iastore, 1) := dk_79 (dk_at dksX5_clause_4 22 rfl rfl)
theorem dX5_clause_117 : decode cX5_clause 117 = .ok (.aload_n 0, 1) := dk_42 (dk_at dksX5_clause_4 23 rfl rfl)
theorem dX5_clause_118 : decode cX5_clause 118 = .ok (.getfield 69, 3) := dk_180 0 69 (dk_at dksX5_clause_5 0 rfl rfl)
theorem dX5_clause_121 : decode cX5_clause 121 = .ok (.aload_n 0, 1) := dk_42 (dk_at dksX5_clause_5 3 rfl rfl)
theorem dX5_clause_122 : decode cX5_clause 122 = .ok (.getfield 274, 3) := dk_180 1 18 (dk_at dksX5_clause_5 4 rfl rfl)
theorem dX5_clause_125 : decode cX5_clause 125 = .ok (.iconst (-1), 1) := dk_2 (dk_at dksX5_clause_5 7 rfl rfl)
theorem dX5_clause_126 : decode cX5_clause 126 = .ok (.iastore, 1) := dk_79 (dk_at dksX5_clause_5 8 rfl rfl)
theorem dX5_clause_127 : decode cX5_clause 127 = .ok (.aload_n 0, 1) := dk_42 (dk_at dksX5_clause_5 9 rfl rfl)
theorem dX5_clause_128 : decode cX5_clause 128 = .ok (.invokevirtual 219, 3) := dk_182 0 219 (dk_at dksX5_clause_5 10 rfl rfl)
theorem dX5_clause_131 : decode cX5_clause 131 = .ok (.aload_n 0, 1) := dk_42 (dk_at dksX5_clause_5 13 rfl rfl)
theorem dX5_clause_132 : decode cX5_clause 132 = .ok (.getfield 248, 3) := dk_180 0 248 (dk_at dksX5_clause_5 14 rfl rfl)
theorem dX5_clause_135 : decode cX5_clause 135 = .ok (.iconst 2, 1) := dk_5 (dk_at dksX5_clause_5 17 rfl rfl)
theorem dX5_clause_136 : decode cX5_clause 136 = .ok (.if_icmp .gt 38, 3) := dk_163 0 38 (dk_at dksX5_clause_5 18 rfl rfl)
theorem dX5_clause_139 : decode cX5_clause 139 = .ok (.aload_n 0, 1) := dk_42 (dk_at dksX5_clause_5 21 rfl rfl)
theorem dX5_clause_140 : decode cX5_clause 140 = .ok (.aload_n 0, 1) := dk_42 (dk_at dksX5_clause_5 22 rfl rfl)
theorem dX5_clause_141 : decode cX5_clause 141 = .ok (.getfield 248, 3) := dk_180 0 248 (dk_at dksX5_clause_6 0 rfl rfl)
theorem dX5_clause_144 : decode cX5_clause 144 = .ok (.iconst 2, 1) := dk_5 (dk_at dksX5_clause_6 3 rfl rfl)
theorem dX5_clause_145 : decode cX5_clause 145 = .ok (.if_icmp .ne 7, 3) := dk_160 0 7 (dk_at dksX5_clause_6 4 rfl rfl)
theorem dX5_clause_148 : decode cX5_clause 148 = .ok (.iconst 2, 1) := dk_5 (dk_at dksX5_clause_6 7 rfl rfl)
theorem dX5_clause_149 : decode cX5_clause 149 = .ok (.goto 4, 3) := dk_167 0 4 (dk_at dksX5_clause_6 8 rfl rfl)
theorem dX5_clause_152 : decode cX5_clause 152 = .ok (.iconst 1, 1) := dk_4 (dk_at dksX5_clause_6 11 rfl rfl)
theorem dX5_clause_153 : decode cX5_clause 153 = .ok (.invokevirtual 216, 3) := dk_182 0 216 (dk_at dksX5_clause_6 12 rfl rfl)
theorem dX5_clause_156 : decode cX5_clause 156 = .ok (.aload_n 0, 1) := dk_42 (dk_at dksX5_clause_6 15 rfl rfl)
theorem dX5_clause_157 : decode cX5_clause 157 = .ok (.aload_n 0, 1) := dk_42 (dk_at dksX5_clause_6 16 rfl rfl)
theorem dX5_clause_158 : decode cX5_clause 158 = .ok (.getfield 248, 3) := dk_180 0 248 (dk_at dksX5_clause_6 17 rfl rfl)
theorem dX5_clause_161 : decode cX5_clause 161 = .ok (.iconst 2, 1) := dk_5 (dk_at dksX5_clause_6 20 rfl rfl)
theorem dX5_clause_162 : decode cX5_clause 162 = .ok (.if_icmp .ne 7, 3) := dk_160 0 7 (dk_at dksX5_clause_6 21 rfl rfl)
theorem dX5_clause_165 : decode cX5_clause 165 = .ok (.iconst 0, 1) := dk_3 (dk_at dksX5_clause_7 0 rfl rfl)
theorem dX5_clause_166 : decode cX5_clause 166 = .ok (.goto 4, 3) := dk_167 0 4 (dk_at dksX5_clause_7 1 rfl rfl)
theorem dX5_clause_169 : decode cX5_clause 169 = .ok (.iconst 1, 1) := dk_4 (dk_at dksX5_clause_7 4 rfl rfl)
theorem dX5_clause_170 : decode cX5_clause 170 = .ok (.putfield 242, 3) := dk_181 0 242 (dk_at dksX5_clause_7 5 rfl rfl)
theorem dX5_clause_173 : decode cX5_clause 173 = .ok (.return_, 1) := dk_177 (dk_at dksX5_clause_7 8 rfl rfl)
theorem dX5_clause_174 : decode cX5_clause 174 = .ok (.aload_n 0, 1) := dk_42 (dk_at dksX5_clause_7 9 rfl rfl)
theorem dX5_clause_175 : decode cX5_clause 175 = .ok (.getfield 66, 3) := dk_180 0 66 (dk_at dksX5_clause_7 10 rfl rfl)
theorem dX5_clause_178 : decode cX5_clause 178 = .ok (.aload_n 0, 1) := dk_42 (dk_at dksX5_clause_7 13 rfl rfl)
theorem dX5_clause_179 : decode cX5_clause 179 = .ok (.getfield 274, 3) := dk_180 1 18 (dk_at dksX5_clause_7 14 rfl rfl)
theorem dX5_clause_182 : decode cX5_clause 182 = .ok (.aload_n 0, 1) := dk_42 (dk_at dksX5_clause_7 17 rfl rfl)
theorem dX5_clause_183 : decode cX5_clause 183 = .ok (.getfield 248, 3) := dk_180 0 248 (dk_at dksX5_clause_7 18 rfl rfl)
theorem dX5_clause_186 : decode cX5_clause 186 = .ok (.bipush 6, 2) := dk_16 6 (dk_at dksX5_clause_7 21 rfl rfl)
theorem dX5_clause_188 : decode cX5_clause 188 = .ok (.if_icmp .ne 13, 3) := dk_160 0 13 (dk_at dksX5_clause_8 0 rfl rfl)
theorem dX5_clause_191 : decode cX5_clause 191 = .ok (.aload_n 0, 1) := dk_42 (dk_at dksX5_clause_8 3 rfl rfl)
theorem dX5_clause_192 : decode cX5_clause 192 = .ok (.iconst 1, 1) := dk_4 (dk_at dksX5_clause_8 4 rfl rfl)
theorem dX5_clause_193 : decode cX5_clause 193 = .ok (.bipush 40, 2) := dk_16 40 (dk_at dksX5_clause_8 5 rfl rfl)
theorem dX5_clause_195 : decode cX5_clause 195 = .ok (.invokevirtual 280, 3) := dk_182 1 24 (dk_at dksX5_clause_8 7 rfl rfl)
theorem dX5_clause_198 : decode cX5_clause 198 = .ok (.goto 22, 3) := dk_167 0 22 (dk_at dksX5_clause_8 10 rfl rfl)
theorem dX5_clause_201 : decode cX5_clause 201 = .ok (.aload_n 0, 1) := dk_42 (dk_at dksX5_clause_8 13 rfl rfl)
theorem dX5_clause_202 : decode cX5_clause 202 = .ok (.iconst 0, 1) := dk_3 (dk_at dksX5_clause_8 14 rfl rfl)
theorem dX5_clause_203 : decode cX5_clause 203 = .ok (.aload_n 0, 1) := dk_42 (dk_at dksX5_clause_8 15 rfl rfl)
theorem dX5_clause_204 : decode cX5_clause 204 = .ok (.getfield 248, 3) := dk_180 0 248 (dk_at dksX5_clause_8 16 rfl rfl)
theorem dX5_clause_207 : decode cX5_clause 207 = .ok (.iconst 5, 1) := dk_8 (dk_at dksX5_clause_8 19 rfl rfl)
theorem dX5_clause_208 : decode cX5_clause 208 = .ok (.if_icmp .ne 7, 3) := dk_160 0 7 (dk_at dksX5_clause_8 20 rfl rfl)
theorem dX5_clause_211 : decode cX5_clause 211 = .ok (.iconst 1, 1) := dk_4 (dk_at dksX5_clause_8 23 rfl rfl)
theorem dX5_clause_212 : decode cX5_clause 212 = .ok (.goto 5, 3) := dk_167 0 5 (dk_at dksX5_clause_9 0 rfl rfl)
theorem dX5_clause_215 : decode cX5_clause 215 = .ok (.bipush 8, 2) := dk_16 8 (dk_at dksX5_clause_9 3 rfl rfl)
theorem dX5_clause_217 : decode cX5_clause 217 = .ok (.invokevirtual 280, 3) := dk_182 1 24 (dk_at dksX5_clause_9 5 rfl rfl)
theorem dX5_clause_220 : decode cX5_clause 220 = .ok (.iastore, 1) := dk_79 (dk_at dksX5_clause_9 8 rfl rfl)
theorem dX5_clause_221 : decode cX5_clause 221 = .ok (.aload_n 0, 1) := dk_42 (dk_at dksX5_clause_9 9 rfl rfl)
theorem dX5_clause_222 : decode cX5_clause 222 = .ok (.getfield 248, 3) := dk_180 0 248 (dk_at dksX5_clause_9 10 rfl rfl)
theorem dX5_clause_225 : decode cX5_clause 225 = .ok (.iconst 3, 1) := dk_6 (dk_at dksX5_clause_9 13 rfl rfl)
theorem dX5_clause_226 : decode cX5_clause 226 = .ok (.if_icmp .eq 11, 3) := dk_159 0 11 (dk_at dksX5_clause_9 14 rfl rfl)
theorem dX5_clause_229 : decode cX5_clause 229 = .ok (.aload_n 0, 1) := dk_42 (dk_at dksX5_clause_9 17 rfl rfl)
theorem dX5_clause_230 : decode cX5_clause 230 = .ok (.getfield 248, 3) := dk_180 0 248 (dk_at dksX5_clause_9 18 rfl rfl)
theorem dX5_clause_233 : decode cX5_clause 233 = .ok (.iconst 4, 1) := dk_7 (dk_at dksX5_clause_9 21 rfl rfl)
theorem dX5_clause_234 : decode cX5_clause 234 = .ok (.if_icmp .ne 49, 3) := dk_160 0 49 (dk_at dksX5_clause_10 0 rfl rfl)
theorem dX5_clause_237 : decode cX5_clause 237 = .ok (.aload_n 0, 1) := dk_42 (dk_at dksX5_clause_10 3 rfl rfl)
theorem dX5_clause_238 : decode cX5_clause 238 = .ok (.aload_n 0, 1) := dk_42 (dk_at dksX5_clause_10 4 rfl rfl)
theorem dX5_clause_239 : decode cX5_clause 239 = .ok (.getfield 248, 3) := dk_180 0 248 (dk_at dksX5_clause_10 5 rfl rfl)
theorem dX5_clause_242 : decode cX5_clause 242 = .ok (.iconst 3, 1) := dk_6 (dk_at dksX5_clause_10 8 rfl rfl)
theorem dX5_clause_243 : decode cX5_clause 243 = .ok (.if_icmp .ne 8, 3) := dk_160 0 8 (dk_at dksX5_clause_10 9 rfl rfl)
theorem dX5_clause_246 : decode cX5_clause 246 = .ok (.bipush 7, 2) := dk_16 7 (dk_at dksX5_clause_10 12 rfl rfl)
theorem dX5_clause_248 : decode cX5_clause 248 = .ok (.goto 5, 3) := dk_167 0 5 (dk_at dksX5_clause_10 14 rfl rfl)
theorem dX5_clause_251 : decode cX5_clause 251 = .ok (.bipush 8, 2) := dk_16 8 (dk_at dksX5_clause_10 17 rfl rfl)
theorem dX5_clause_253 : decode cX5_clause 253 = .ok (.invokevirtual 284, 3) := dk_182 1 28 (dk_at dksX5_clause_10 19 rfl rfl)
theorem dX5_clause_256 : decode cX5_clause 256 = .ok (.aload_n 0, 1) := dk_42 (dk_at dksX5_clause_10 22 rfl rfl)
theorem dX5_clause_257 : decode cX5_clause 257 = .ok (.getfield 69, 3) := dk_180 0 69 (dk_at dksX5_clause_11 0 rfl rfl)
theorem dX5_clause_260 : decode cX5_clause 260 = .ok (.aload_n 0, 1) := dk_42 (dk_at dksX5_clause_11 3 rfl rfl)
theorem dX5_clause_261 : decode cX5_clause 261 = .ok (.getfield 274, 3) := dk_180 1 18 (dk_at dksX5_clause_11 4 rfl rfl)
theorem dX5_clause_264 : decode cX5_clause 264 = .ok (.aload_n 0, 1) := dk_42 (dk_at dksX5_clause_11 7 rfl rfl)
theorem dX5_clause_265 : decode cX5_clause 265 = .ok (.iconst 0, 1) := dk_3 (dk_at dksX5_clause_11 8 rfl rfl)
theorem dX5_clause_266 : decode cX5_clause 266 = .ok (.aload_n 0, 1) := dk_42 (dk_at dksX5_clause_11 9 rfl rfl)
theorem dX5_clause_267 : decode cX5_clause 267 = .ok (.getfield 248, 3) := dk_180 0 248 (dk_at dksX5_clause_11 10 rfl rfl)
theorem dX5_clause_270 : decode cX5_clause 270 = .ok (.iconst 3, 1) := dk_6 (dk_at dksX5_clause_11 13 rfl rfl)
theorem dX5_clause_271 : decode cX5_clause 271 = .ok (.if_icmp .ne 7, 3) := dk_160 0 7 (dk_at dksX5_clause_11 14 rfl rfl)
theorem dX5_clause_274 : decode cX5_clause 274 = .ok (.iconst 2, 1) := dk_5 (dk_at dksX5_clause_11 17 rfl rfl)
theorem dX5_clause_275 : decode cX5_clause 275 = .ok (.goto 4, 3) := dk_167 0 4 (dk_at dksX5_clause_11 18 rfl rfl)
theorem dX5_clause_278 : decode cX5_clause 278 = .ok (.iconst 1, 1) := dk_4 (dk_at dksX5_clause_11 21 rfl rfl)
theorem dX5_clause_279 : decode cX5_clause 279 = .ok (.invokevirtual 280, 3) := dk_182 1 24 (dk_at dksX5_clause_12 0 rfl rfl)
theorem dX5_clause_282 : decode cX5_clause 282 = .ok (.iastore, 1) := dk_79 (dk_at dksX5_clause_12 3 rfl rfl)
theorem dX5_clause_283 : decode cX5_clause 283 = .ok (.aload_n 0, 1) := dk_42 (dk_at dksX5_clause_12 4 rfl rfl)
theorem dX5_clause_284 : decode cX5_clause 284 = .ok (.getfield 198, 3) := dk_180 0 198 (dk_at dksX5_clause_12 5 rfl rfl)
theorem dX5_clause_287 : decode cX5_clause 287 = .ok (.ifCond .ne 17, 3) := dk_154 0 17 (dk_at dksX5_clause_12 8 rfl rfl)
theorem dX5_clause_290 : decode cX5_clause 290 = .ok (.aload_n 0, 1) := dk_42 (dk_at dksX5_clause_12 11 rfl rfl)
theorem dX5_clause_291 : decode cX5_clause 291 = .ok (.bipush 59, 2) := dk_16 59 (dk_at dksX5_clause_12 12 rfl rfl)
theorem dX5_clause_293 : decode cX5_clause 293 = .ok (.invokevirtual 255, 3) := dk_182 0 255 (dk_at dksX5_clause_12 14 rfl rfl)
theorem dX5_clause_296 : decode cX5_clause 296 = .ok (.ifCond .ne 8, 3) := dk_154 0 8 (dk_at dksX5_clause_12 17 rfl rfl)
theorem dX5_clause_299 : decode cX5_clause 299 = .ok (.aload_n 0, 1) := dk_42 (dk_at dksX5_clause_12 20 rfl rfl)
theorem dX5_clause_300 : decode cX5_clause 300 = .ok (.iconst 1, 1) := dk_4 (dk_at dksX5_clause_12 21 rfl rfl)
theorem dX5_clause_301 : decode cX5_clause 301 = .ok (.invokevirtual 213, 3) := dk_182 0 213 (dk_at dksX5_clause_13 0 rfl rfl)
theorem dX5_clause_304 : decode cX5_clause 304 = .ok (.aload_n 0, 1) := dk_42 (dk_at dksX5_clause_13 3 rfl rfl)
theorem dX5_clause_305 : decode cX5_clause 305 = .ok (.getfield 198, 3) := dk_180 0 198 (dk_at dksX5_clause_13 4 rfl rfl)
theorem dX5_clause_308 : decode cX5_clause 308 = .ok (.ifCond .ne 7, 3) := dk_154 0 7 (dk_at dksX5_clause_13 7 rfl rfl)
theorem dX5_clause_311 : decode cX5_clause 311 = .ok (.aload_n 0, 1) := dk_42 (dk_at dksX5_clause_13 10 rfl rfl)
theorem dX5_clause_312 : decode cX5_clause 312 = .ok (.invokevirtual 271, 3) := dk_182 1 15 (dk_at dksX5_clause_13 11 rfl rfl)
theorem dX5_clause_315 : decode cX5_clause 315 = .ok (.return_, 1) := dk_177 (dk_at dksX5_clause_13 14 rfl rfl)
abbrev cX5_wasTold : ByteArray := prog_23_method_37_code
def yX5_wasTold : MethodName := ⟨RX5, "wasTold", "(I)Z"⟩
def dkwX5_wasTold_1 : List UInt8 := [160, 0, 7, 4, 167, 0, 4, 3, 61, 132, 3, 1, 167, 255, 225, 28, 172]
abbrev dktX5_wasTold_1 : List UInt8 := dkwX5_wasTold_1 ++ []
def dkwX5_wasTold_0 : List UInt8 := [3, 61, 3, 62, 29, 42, 180, 1, 18, 162, 0, 29, 28, 154, 0, 13, 42, 180, 0, 60, 29, 46, 27]
abbrev dktX5_wasTold_0 : List UInt8 := dkwX5_wasTold_0 ++ dktX5_wasTold_1
theorem dksX5_wasTold_0 : cX5_wasTold.data.toList.drop 0 = dktX5_wasTold_0 := by decide +kernel
theorem dksX5_wasTold_1 : cX5_wasTold.data.toList.drop 23 = dktX5_wasTold_1 := dk_seg dksX5_wasTold_0 23 rfl rfl
theorem dX5_wasTold_0 : decode cX5_wasTold 0 = .ok (.iconst 0, 1) := dk_3 (dk_at dksX5_wasTold_0 0 rfl rfl)
theorem dX5_wasTold_1 : decode cX5_wasTold 1 = .ok (.istore_n 2, 1) := dk_61 (dk_at dksX5_wasTold_0 1 rfl rfl)
theorem dX5_wasTold_2 : decode cX5_wasTold 2 = .ok (.iconst 0, 1) := dk_3 (dk_at dksX5_wasTold_0 2 rfl rfl)
theorem dX5_wasTold_3 : decode cX5_wasTold 3 = .ok (.istore_n 3, 1) := dk_62 (dk_at dksX5_wasTold_0 3 rfl rfl)
theorem dX5_wasTold_4 : decode cX5_wasTold 4 = .ok (.iload_n 3, 1) := dk_29 (dk_at dksX5_wasTold_0 4 rfl rfl)
theorem dX5_wasTold_5 : decode cX5_wasTold 5 = .ok (.aload_n 0, 1) := dk_42 (dk_at dksX5_wasTold_0 5 rfl rfl)
theorem dX5_wasTold_6 : decode cX5_wasTold 6 = .ok (.getfield 274, 3) := dk_180 1 18 (dk_at dksX5_wasTold_0 6 rfl rfl)
theorem dX5_wasTold_9 : decode cX5_wasTold 9 = .ok (.if_icmp .ge 29, 3) := dk_162 0 29 (dk_at dksX5_wasTold_0 9 rfl rfl)
theorem dX5_wasTold_12 : decode cX5_wasTold 12 = .ok (.iload_n 2, 1) := dk_28 (dk_at dksX5_wasTold_0 12 rfl rfl)
theorem dX5_wasTold_13 : decode cX5_wasTold 13 = .ok (.ifCond .ne 13, 3) := dk_154 0 13 (dk_at dksX5_wasTold_0 13 rfl rfl)
theorem dX5_wasTold_16 : decode cX5_wasTold 16 = .ok (.aload_n 0, 1) := dk_42 (dk_at dksX5_wasTold_0 16 rfl rfl)
theorem dX5_wasTold_17 : decode cX5_wasTold 17 = .ok (.getfield 60, 3) := dk_180 0 60 (dk_at dksX5_wasTold_0 17 rfl rfl)
theorem dX5_wasTold_20 : decode cX5_wasTold 20 = .ok (.iload_n 3, 1) := dk_29 (dk_at dksX5_wasTold_0 20 rfl rfl)
theorem dX5_wasTold_21 : decode cX5_wasTold 21 = .ok (.iaload, 1) := dk_46 (dk_at dksX5_wasTold_0 21 rfl rfl)
theorem dX5_wasTold_22 : decode cX5_wasTold 22 = .ok (.iload_n 1, 1) := dk_27 (dk_at dksX5_wasTold_0 22 rfl rfl)
theorem dX5_wasTold_23 : decode cX5_wasTold 23 = .ok (.if_icmp .ne 7, 3) := dk_160 0 7 (dk_at dksX5_wasTold_1 0 rfl rfl)
theorem dX5_wasTold_26 : decode cX5_wasTold 26 = .ok (.iconst 1, 1) := dk_4 (dk_at dksX5_wasTold_1 3 rfl rfl)
theorem dX5_wasTold_27 : decode cX5_wasTold 27 = .ok (.goto 4, 3) := dk_167 0 4 (dk_at dksX5_wasTold_1 4 rfl rfl)
theorem dX5_wasTold_30 : decode cX5_wasTold 30 = .ok (.iconst 0, 1) := dk_3 (dk_at dksX5_wasTold_1 7 rfl rfl)
theorem dX5_wasTold_31 : decode cX5_wasTold 31 = .ok (.istore_n 2, 1) := dk_61 (dk_at dksX5_wasTold_1 8 rfl rfl)
theorem dX5_wasTold_32 : decode cX5_wasTold 32 = .ok (.iinc 3 1, 3) := dk_132 3 1 (dk_at dksX5_wasTold_1 9 rfl rfl)
theorem dX5_wasTold_35 : decode cX5_wasTold 35 = .ok (.goto (-31), 3) := dk_167 255 225 (dk_at dksX5_wasTold_1 12 rfl rfl)
theorem dX5_wasTold_38 : decode cX5_wasTold 38 = .ok (.iload_n 2, 1) := dk_28 (dk_at dksX5_wasTold_1 15 rfl rfl)
theorem dX5_wasTold_39 : decode cX5_wasTold 39 = .ok (.ireturn, 1) := dk_172 (dk_at dksX5_wasTold_1 16 rfl rfl)
abbrev cX5_number : ByteArray := prog_23_method_36_code
def yX5_number : MethodName := ⟨RX5, "number", "(II)I"⟩
def dkwX5_number_2 : List UInt8 := [182, 0, 219, 29, 172]
abbrev dktX5_number_2 : List UInt8 := dkwX5_number_2 ++ []
def dkwX5_number_1 : List UInt8 := [180, 0, 194, 27, 28, 184, 0, 110, 154, 0, 10, 42, 5, 182, 0, 213, 27, 172, 42, 180, 0, 194, 62, 42]
abbrev dktX5_number_1 : List UInt8 := dkwX5_number_1 ++ dktX5_number_2
def dkwX5_number_0 : List UInt8 := [42, 180, 0, 198, 157, 0, 11, 42, 180, 0, 182, 5, 159, 0, 10, 42, 4, 182, 0, 213, 27, 172, 42]
abbrev dktX5_number_0 : List UInt8 := dkwX5_number_0 ++ dktX5_number_1
theorem dksX5_number_0 : cX5_number.data.toList.drop 0 = dktX5_number_0 := by decide +kernel
theorem dksX5_number_1 : cX5_number.data.toList.drop 23 = dktX5_number_1 := dk_seg dksX5_number_0 23 rfl rfl
theorem dksX5_number_2 : cX5_number.data.toList.drop 47 = dktX5_number_2 := dk_seg dksX5_number_1 24 rfl rfl
theorem dX5_number_0 : decode cX5_number 0 = .ok (.aload_n 0, 1) := dk_42 (dk_at dksX5_number_0 0 rfl rfl)
theorem dX5_number_1 : decode cX5_number 1 = .ok (.getfield 198, 3) := dk_180 0 198 (dk_at dksX5_number_0 1 rfl rfl)
theorem dX5_number_4 : decode cX5_number 4 = .ok (.ifCond .gt 11, 3) := dk_157 0 11 (dk_at dksX5_number_0 4 rfl rfl)
theorem dX5_number_7 : decode cX5_number 7 = .ok (.aload_n 0, 1) := dk_42 (dk_at dksX5_number_0 7 rfl rfl)
theorem dX5_number_8 : decode cX5_number 8 = .ok (.getfield 182, 3) := dk_180 0 182 (dk_at dksX5_number_0 8 rfl rfl)
theorem dX5_number_11 : decode cX5_number 11 = .ok (.iconst 2, 1) := dk_5 (dk_at dksX5_number_0 11 rfl rfl)
theorem dX5_number_12 : decode cX5_number 12 = .ok (.if_icmp .eq 10, 3) := dk_159 0 10 (dk_at dksX5_number_0 12 rfl rfl)
theorem dX5_number_15 : decode cX5_number 15 = .ok (.aload_n 0, 1) := dk_42 (dk_at dksX5_number_0 15 rfl rfl)
theorem dX5_number_16 : decode cX5_number 16 = .ok (.iconst 1, 1) := dk_4 (dk_at dksX5_number_0 16 rfl rfl)
theorem dX5_number_17 : decode cX5_number 17 = .ok (.invokevirtual 213, 3) := dk_182 0 213 (dk_at dksX5_number_0 17 rfl rfl)
theorem dX5_number_20 : decode cX5_number 20 = .ok (.iload_n 1, 1) := dk_27 (dk_at dksX5_number_0 20 rfl rfl)
theorem dX5_number_21 : decode cX5_number 21 = .ok (.ireturn, 1) := dk_172 (dk_at dksX5_number_0 21 rfl rfl)
theorem dX5_number_22 : decode cX5_number 22 = .ok (.aload_n 0, 1) := dk_42 (dk_at dksX5_number_0 22 rfl rfl)
theorem dX5_number_23 : decode cX5_number 23 = .ok (.getfield 194, 3) := dk_180 0 194 (dk_at dksX5_number_1 0 rfl rfl)
theorem dX5_number_26 : decode cX5_number 26 = .ok (.iload_n 1, 1) := dk_27 (dk_at dksX5_number_1 3 rfl rfl)
theorem dX5_number_27 : decode cX5_number 27 = .ok (.iload_n 2, 1) := dk_28 (dk_at dksX5_number_1 4 rfl rfl)
theorem dX5_number_28 : decode cX5_number 28 = .ok (.invokestatic 110, 3) := dk_184 0 110 (dk_at dksX5_number_1 5 rfl rfl)
theorem dX5_number_31 : decode cX5_number 31 = .ok (.ifCond .ne 10, 3) := dk_154 0 10 (dk_at dksX5_number_1 8 rfl rfl)
theorem dX5_number_34 : decode cX5_number 34 = .ok (.aload_n 0, 1) := dk_42 (dk_at dksX5_number_1 11 rfl rfl)
theorem dX5_number_35 : decode cX5_number 35 = .ok (.iconst 2, 1) := dk_5 (dk_at dksX5_number_1 12 rfl rfl)
theorem dX5_number_36 : decode cX5_number 36 = .ok (.invokevirtual 213, 3) := dk_182 0 213 (dk_at dksX5_number_1 13 rfl rfl)
theorem dX5_number_39 : decode cX5_number 39 = .ok (.iload_n 1, 1) := dk_27 (dk_at dksX5_number_1 16 rfl rfl)
theorem dX5_number_40 : decode cX5_number 40 = .ok (.ireturn, 1) := dk_172 (dk_at dksX5_number_1 17 rfl rfl)
theorem dX5_number_41 : decode cX5_number 41 = .ok (.aload_n 0, 1) := dk_42 (dk_at dksX5_number_1 18 rfl rfl)
theorem dX5_number_42 : decode cX5_number 42 = .ok (.getfield 194, 3) := dk_180 0 194 (dk_at dksX5_number_1 19 rfl rfl)
theorem dX5_number_45 : decode cX5_number 45 = .ok (.istore_n 3, 1) := dk_62 (dk_at dksX5_number_1 22 rfl rfl)
theorem dX5_number_46 : decode cX5_number 46 = .ok (.aload_n 0, 1) := dk_42 (dk_at dksX5_number_1 23 rfl rfl)
theorem dX5_number_47 : decode cX5_number 47 = .ok (.invokevirtual 219, 3) := dk_182 0 219 (dk_at dksX5_number_2 0 rfl rfl)
theorem dX5_number_50 : decode cX5_number 50 = .ok (.iload_n 3, 1) := dk_29 (dk_at dksX5_number_2 3 rfl rfl)
theorem dX5_number_51 : decode cX5_number 51 = .ok (.ireturn, 1) := dk_172 (dk_at dksX5_number_2 4 rfl rfl)
abbrev cX5_wants : ByteArray := prog_23_method_38_code
def yX5_wants : MethodName := ⟨RX5, "wants", "(I)V"⟩
def dkwX5_wants_1 : List UInt8 := [154, 0, 7, 42, 182, 0, 219, 177]
abbrev dktX5_wants_1 : List UInt8 := dkwX5_wants_1 ++ []
def dkwX5_wants_0 : List UInt8 := [42, 180, 0, 198, 154, 0, 16, 42, 27, 182, 0, 236, 154, 0, 8, 42, 4, 182, 0, 213, 42, 180, 0, 198]
abbrev dktX5_wants_0 : List UInt8 := dkwX5_wants_0 ++ dktX5_wants_1
theorem dksX5_wants_0 : cX5_wants.data.toList.drop 0 = dktX5_wants_0 := by decide +kernel
theorem dksX5_wants_1 : cX5_wants.data.toList.drop 24 = dktX5_wants_1 := dk_seg dksX5_wants_0 24 rfl rfl
theorem dX5_wants_0 : decode cX5_wants 0 = .ok (.aload_n 0, 1) := dk_42 (dk_at dksX5_wants_0 0 rfl rfl)
theorem dX5_wants_1 : decode cX5_wants 1 = .ok (.getfield 198, 3) := dk_180 0 198 (dk_at dksX5_wants_0 1 rfl rfl)
theorem dX5_wants_4 : decode cX5_wants 4 = .ok (.ifCond .ne 16, 3) := dk_154 0 16 (dk_at dksX5_wants_0 4 rfl rfl)
theorem dX5_wants_7 : decode cX5_wants 7 = .ok (.aload_n 0, 1) := dk_42 (dk_at dksX5_wants_0 7 rfl rfl)
theorem dX5_wants_8 : decode cX5_wants 8 = .ok (.iload_n 1, 1) := dk_27 (dk_at dksX5_wants_0 8 rfl rfl)
theorem dX5_wants_9 : decode cX5_wants 9 = .ok (.invokevirtual 236, 3) := dk_182 0 236 (dk_at dksX5_wants_0 9 rfl rfl)
theorem dX5_wants_12 : decode cX5_wants 12 = .ok (.ifCond .ne 8, 3) := dk_154 0 8 (dk_at dksX5_wants_0 12 rfl rfl)
theorem dX5_wants_15 : decode cX5_wants 15 = .ok (.aload_n 0, 1) := dk_42 (dk_at dksX5_wants_0 15 rfl rfl)
theorem dX5_wants_16 : decode cX5_wants 16 = .ok (.iconst 1, 1) := dk_4 (dk_at dksX5_wants_0 16 rfl rfl)
theorem dX5_wants_17 : decode cX5_wants 17 = .ok (.invokevirtual 213, 3) := dk_182 0 213 (dk_at dksX5_wants_0 17 rfl rfl)
theorem dX5_wants_20 : decode cX5_wants 20 = .ok (.aload_n 0, 1) := dk_42 (dk_at dksX5_wants_0 20 rfl rfl)
theorem dX5_wants_21 : decode cX5_wants 21 = .ok (.getfield 198, 3) := dk_180 0 198 (dk_at dksX5_wants_0 21 rfl rfl)
theorem dX5_wants_24 : decode cX5_wants 24 = .ok (.ifCond .ne 7, 3) := dk_154 0 7 (dk_at dksX5_wants_1 0 rfl rfl)
theorem dX5_wants_27 : decode cX5_wants 27 = .ok (.aload_n 0, 1) := dk_42 (dk_at dksX5_wants_1 3 rfl rfl)
theorem dX5_wants_28 : decode cX5_wants 28 = .ok (.invokevirtual 219, 3) := dk_182 0 219 (dk_at dksX5_wants_1 4 rfl rfl)
theorem dX5_wants_31 : decode cX5_wants 31 = .ok (.return_, 1) := dk_177 (dk_at dksX5_wants_1 7 rfl rfl)
abbrev cX5_fault : ByteArray := prog_23_method_41_code
def yX5_fault : MethodName := ⟨RX5, "fault", "(I)I"⟩
def dkwX5_fault_1 : List UInt8 := [172]
abbrev dktX5_fault_1 : List UInt8 := dkwX5_fault_1 ++ []
def dkwX5_fault_0 : List UInt8 := [27, 154, 0, 10, 42, 180, 0, 20, 167, 0, 16, 27, 4, 160, 0, 10, 42, 180, 0, 24, 167, 0, 4, 2]
abbrev dktX5_fault_0 : List UInt8 := dkwX5_fault_0 ++ dktX5_fault_1
theorem dksX5_fault_0 : cX5_fault.data.toList.drop 0 = dktX5_fault_0 := by decide +kernel
theorem dksX5_fault_1 : cX5_fault.data.toList.drop 24 = dktX5_fault_1 := dk_seg dksX5_fault_0 24 rfl rfl
theorem dX5_fault_0 : decode cX5_fault 0 = .ok (.iload_n 1, 1) := dk_27 (dk_at dksX5_fault_0 0 rfl rfl)
theorem dX5_fault_1 : decode cX5_fault 1 = .ok (.ifCond .ne 10, 3) := dk_154 0 10 (dk_at dksX5_fault_0 1 rfl rfl)
theorem dX5_fault_4 : decode cX5_fault 4 = .ok (.aload_n 0, 1) := dk_42 (dk_at dksX5_fault_0 4 rfl rfl)
theorem dX5_fault_5 : decode cX5_fault 5 = .ok (.getfield 20, 3) := dk_180 0 20 (dk_at dksX5_fault_0 5 rfl rfl)
theorem dX5_fault_8 : decode cX5_fault 8 = .ok (.goto 16, 3) := dk_167 0 16 (dk_at dksX5_fault_0 8 rfl rfl)
theorem dX5_fault_11 : decode cX5_fault 11 = .ok (.iload_n 1, 1) := dk_27 (dk_at dksX5_fault_0 11 rfl rfl)
theorem dX5_fault_12 : decode cX5_fault 12 = .ok (.iconst 1, 1) := dk_4 (dk_at dksX5_fault_0 12 rfl rfl)
theorem dX5_fault_13 : decode cX5_fault 13 = .ok (.if_icmp .ne 10, 3) := dk_160 0 10 (dk_at dksX5_fault_0 13 rfl rfl)
theorem dX5_fault_16 : decode cX5_fault 16 = .ok (.aload_n 0, 1) := dk_42 (dk_at dksX5_fault_0 16 rfl rfl)
theorem dX5_fault_17 : decode cX5_fault 17 = .ok (.getfield 24, 3) := dk_180 0 24 (dk_at dksX5_fault_0 17 rfl rfl)
theorem dX5_fault_20 : decode cX5_fault 20 = .ok (.goto 4, 3) := dk_167 0 4 (dk_at dksX5_fault_0 20 rfl rfl)
theorem dX5_fault_23 : decode cX5_fault 23 = .ok (.iconst (-1), 1) := dk_2 (dk_at dksX5_fault_0 23 rfl rfl)
theorem dX5_fault_24 : decode cX5_fault 24 = .ok (.ireturn, 1) := dk_172 (dk_at dksX5_fault_1 0 rfl rfl)
abbrev cX5_by : ByteArray := prog_23_method_45_code
def yX5_by : MethodName := ⟨RX5, "by", "(I)Z"⟩
def dkwX5_by_1 : List UInt8 := [180, 0, 7, 5, 27, 79, 4, 172]
abbrev dktX5_by_1 : List UInt8 := dkwX5_by_1 ++ []
def dkwX5_by_0 : List UInt8 := [27, 2, 159, 0, 21, 27, 3, 42, 180, 0, 7, 4, 46, 4, 100, 184, 0, 110, 154, 0, 5, 3, 172, 42]
abbrev dktX5_by_0 : List UInt8 := dkwX5_by_0 ++ dktX5_by_1
theorem dksX5_by_0 : cX5_by.data.toList.drop 0 = dktX5_by_0 := by decide +kernel
theorem dksX5_by_1 : cX5_by.data.toList.drop 24 = dktX5_by_1 := dk_seg dksX5_by_0 24 rfl rfl
theorem dX5_by_0 : decode cX5_by 0 = .ok (.iload_n 1, 1) := dk_27 (dk_at dksX5_by_0 0 rfl rfl)
theorem dX5_by_1 : decode cX5_by 1 = .ok (.iconst (-1), 1) := dk_2 (dk_at dksX5_by_0 1 rfl rfl)
theorem dX5_by_2 : decode cX5_by 2 = .ok (.if_icmp .eq 21, 3) := dk_159 0 21 (dk_at dksX5_by_0 2 rfl rfl)
theorem dX5_by_5 : decode cX5_by 5 = .ok (.iload_n 1, 1) := dk_27 (dk_at dksX5_by_0 5 rfl rfl)
theorem dX5_by_6 : decode cX5_by 6 = .ok (.iconst 0, 1) := dk_3 (dk_at dksX5_by_0 6 rfl rfl)
theorem dX5_by_7 : decode cX5_by 7 = .ok (.aload_n 0, 1) := dk_42 (dk_at dksX5_by_0 7 rfl rfl)
theorem dX5_by_8 : decode cX5_by 8 = .ok (.getfield 7, 3) := dk_180 0 7 (dk_at dksX5_by_0 8 rfl rfl)
theorem dX5_by_11 : decode cX5_by 11 = .ok (.iconst 1, 1) := dk_4 (dk_at dksX5_by_0 11 rfl rfl)
theorem dX5_by_12 : decode cX5_by 12 = .ok (.iaload, 1) := dk_46 (dk_at dksX5_by_0 12 rfl rfl)
theorem dX5_by_13 : decode cX5_by 13 = .ok (.iconst 1, 1) := dk_4 (dk_at dksX5_by_0 13 rfl rfl)
theorem dX5_by_14 : decode cX5_by 14 = .ok (.isub, 1) := dk_100 (dk_at dksX5_by_0 14 rfl rfl)
theorem dX5_by_15 : decode cX5_by 15 = .ok (.invokestatic 110, 3) := dk_184 0 110 (dk_at dksX5_by_0 15 rfl rfl)
theorem dX5_by_18 : decode cX5_by 18 = .ok (.ifCond .ne 5, 3) := dk_154 0 5 (dk_at dksX5_by_0 18 rfl rfl)
theorem dX5_by_21 : decode cX5_by 21 = .ok (.iconst 0, 1) := dk_3 (dk_at dksX5_by_0 21 rfl rfl)
theorem dX5_by_22 : decode cX5_by 22 = .ok (.ireturn, 1) := dk_172 (dk_at dksX5_by_0 22 rfl rfl)
theorem dX5_by_23 : decode cX5_by 23 = .ok (.aload_n 0, 1) := dk_42 (dk_at dksX5_by_0 23 rfl rfl)
theorem dX5_by_24 : decode cX5_by 24 = .ok (.getfield 7, 3) := dk_180 0 7 (dk_at dksX5_by_1 0 rfl rfl)
theorem dX5_by_27 : decode cX5_by 27 = .ok (.iconst 2, 1) := dk_5 (dk_at dksX5_by_1 3 rfl rfl)
theorem dX5_by_28 : decode cX5_by 28 = .ok (.iload_n 1, 1) := dk_27 (dk_at dksX5_by_1 4 rfl rfl)
theorem dX5_by_29 : decode cX5_by 29 = .ok (.iastore, 1) := dk_79 (dk_at dksX5_by_1 5 rfl rfl)
theorem dX5_by_30 : decode cX5_by 30 = .ok (.iconst 1, 1) := dk_4 (dk_at dksX5_by_1 6 rfl rfl)
theorem dX5_by_31 : decode cX5_by 31 = .ok (.ireturn, 1) := dk_172 (dk_at dksX5_by_1 7 rfl rfl)
abbrev cX5_sit : ByteArray := prog_23_method_56_code
def yX5_sit : MethodName := ⟨RX5, "sit", "(II)Z"⟩
def dkwX5_sit_1 : List UInt8 := [96, 46, 28, 160, 0, 5, 3, 172, 42, 182, 1, 90, 42, 180, 0, 7, 16, 114, 27, 96, 28, 79, 4, 172]
abbrev dktX5_sit_1 : List UInt8 := dkwX5_sit_1 ++ []
def dkwX5_sit_0 : List UInt8 := [42, 27, 182, 1, 87, 153, 0, 25, 28, 3, 5, 184, 0, 110, 153, 0, 16, 42, 180, 0, 7, 16, 114, 27]
abbrev dktX5_sit_0 : List UInt8 := dkwX5_sit_0 ++ dktX5_sit_1
theorem dksX5_sit_0 : cX5_sit.data.toList.drop 0 = dktX5_sit_0 := by decide +kernel
theorem dksX5_sit_1 : cX5_sit.data.toList.drop 24 = dktX5_sit_1 := dk_seg dksX5_sit_0 24 rfl rfl
theorem dX5_sit_0 : decode cX5_sit 0 = .ok (.aload_n 0, 1) := dk_42 (dk_at dksX5_sit_0 0 rfl rfl)
theorem dX5_sit_1 : decode cX5_sit 1 = .ok (.iload_n 1, 1) := dk_27 (dk_at dksX5_sit_0 1 rfl rfl)
theorem dX5_sit_2 : decode cX5_sit 2 = .ok (.invokevirtual 343, 3) := dk_182 1 87 (dk_at dksX5_sit_0 2 rfl rfl)
theorem dX5_sit_5 : decode cX5_sit 5 = .ok (.ifCond .eq 25, 3) := dk_153 0 25 (dk_at dksX5_sit_0 5 rfl rfl)
theorem dX5_sit_8 : decode cX5_sit 8 = .ok (.iload_n 2, 1) := dk_28 (dk_at dksX5_sit_0 8 rfl rfl)
theorem dX5_sit_9 : decode cX5_sit 9 = .ok (.iconst 0, 1) := dk_3 (dk_at dksX5_sit_0 9 rfl rfl)
theorem dX5_sit_10 : decode cX5_sit 10 = .ok (.iconst 2, 1) := dk_5 (dk_at dksX5_sit_0 10 rfl rfl)
theorem dX5_sit_11 : decode cX5_sit 11 = .ok (.invokestatic 110, 3) := dk_184 0 110 (dk_at dksX5_sit_0 11 rfl rfl)
theorem dX5_sit_14 : decode cX5_sit 14 = .ok (.ifCond .eq 16, 3) := dk_153 0 16 (dk_at dksX5_sit_0 14 rfl rfl)
theorem dX5_sit_17 : decode cX5_sit 17 = .ok (.aload_n 0, 1) := dk_42 (dk_at dksX5_sit_0 17 rfl rfl)
theorem dX5_sit_18 : decode cX5_sit 18 = .ok (.getfield 7, 3) := dk_180 0 7 (dk_at dksX5_sit_0 18 rfl rfl)
theorem dX5_sit_21 : decode cX5_sit 21 = .ok (.bipush 114, 2) := dk_16 114 (dk_at dksX5_sit_0 21 rfl rfl)
theorem dX5_sit_23 : decode cX5_sit 23 = .ok (.iload_n 1, 1) := dk_27 (dk_at dksX5_sit_0 23 rfl rfl)
theorem dX5_sit_24 : decode cX5_sit 24 = .ok (.iadd, 1) := dk_96 (dk_at dksX5_sit_1 0 rfl rfl)
theorem dX5_sit_25 : decode cX5_sit 25 = .ok (.iaload, 1) := dk_46 (dk_at dksX5_sit_1 1 rfl rfl)
theorem dX5_sit_26 : decode cX5_sit 26 = .ok (.iload_n 2, 1) := dk_28 (dk_at dksX5_sit_1 2 rfl rfl)
theorem dX5_sit_27 : decode cX5_sit 27 = .ok (.if_icmp .ne 5, 3) := dk_160 0 5 (dk_at dksX5_sit_1 3 rfl rfl)
theorem dX5_sit_30 : decode cX5_sit 30 = .ok (.iconst 0, 1) := dk_3 (dk_at dksX5_sit_1 6 rfl rfl)
theorem dX5_sit_31 : decode cX5_sit 31 = .ok (.ireturn, 1) := dk_172 (dk_at dksX5_sit_1 7 rfl rfl)
theorem dX5_sit_32 : decode cX5_sit 32 = .ok (.aload_n 0, 1) := dk_42 (dk_at dksX5_sit_1 8 rfl rfl)
theorem dX5_sit_33 : decode cX5_sit 33 = .ok (.invokevirtual 346, 3) := dk_182 1 90 (dk_at dksX5_sit_1 9 rfl rfl)
theorem dX5_sit_36 : decode cX5_sit 36 = .ok (.aload_n 0, 1) := dk_42 (dk_at dksX5_sit_1 12 rfl rfl)
theorem dX5_sit_37 : decode cX5_sit 37 = .ok (.getfield 7, 3) := dk_180 0 7 (dk_at dksX5_sit_1 13 rfl rfl)
theorem dX5_sit_40 : decode cX5_sit 40 = .ok (.bipush 114, 2) := dk_16 114 (dk_at dksX5_sit_1 16 rfl rfl)
theorem dX5_sit_42 : decode cX5_sit 42 = .ok (.iload_n 1, 1) := dk_27 (dk_at dksX5_sit_1 18 rfl rfl)
theorem dX5_sit_43 : decode cX5_sit 43 = .ok (.iadd, 1) := dk_96 (dk_at dksX5_sit_1 19 rfl rfl)
theorem dX5_sit_44 : decode cX5_sit 44 = .ok (.iload_n 2, 1) := dk_28 (dk_at dksX5_sit_1 20 rfl rfl)
theorem dX5_sit_45 : decode cX5_sit 45 = .ok (.iastore, 1) := dk_79 (dk_at dksX5_sit_1 21 rfl rfl)
theorem dX5_sit_46 : decode cX5_sit 46 = .ok (.iconst 1, 1) := dk_4 (dk_at dksX5_sit_1 22 rfl rfl)
theorem dX5_sit_47 : decode cX5_sit 47 = .ok (.ireturn, 1) := dk_172 (dk_at dksX5_sit_1 23 rfl rfl)
abbrev cX5_isEater : ByteArray := prog_23_method_4_code
def yX5_isEater : MethodName := ⟨RX5, "isEater", "(I)Z"⟩
def dkwX5_isEater_0 : List UInt8 := [27, 3, 42, 180, 0, 7, 3, 46, 4, 100, 184, 0, 110, 172]
abbrev dktX5_isEater_0 : List UInt8 := dkwX5_isEater_0 ++ []
theorem dksX5_isEater_0 : cX5_isEater.data.toList.drop 0 = dktX5_isEater_0 := by decide +kernel
theorem dX5_isEater_0 : decode cX5_isEater 0 = .ok (.iload_n 1, 1) := dk_27 (dk_at dksX5_isEater_0 0 rfl rfl)
theorem dX5_isEater_1 : decode cX5_isEater 1 = .ok (.iconst 0, 1) := dk_3 (dk_at dksX5_isEater_0 1 rfl rfl)
theorem dX5_isEater_2 : decode cX5_isEater 2 = .ok (.aload_n 0, 1) := dk_42 (dk_at dksX5_isEater_0 2 rfl rfl)
theorem dX5_isEater_3 : decode cX5_isEater 3 = .ok (.getfield 7, 3) := dk_180 0 7 (dk_at dksX5_isEater_0 3 rfl rfl)
theorem dX5_isEater_6 : decode cX5_isEater 6 = .ok (.iconst 0, 1) := dk_3 (dk_at dksX5_isEater_0 6 rfl rfl)
theorem dX5_isEater_7 : decode cX5_isEater 7 = .ok (.iaload, 1) := dk_46 (dk_at dksX5_isEater_0 7 rfl rfl)
theorem dX5_isEater_8 : decode cX5_isEater 8 = .ok (.iconst 1, 1) := dk_4 (dk_at dksX5_isEater_0 8 rfl rfl)
theorem dX5_isEater_9 : decode cX5_isEater 9 = .ok (.isub, 1) := dk_100 (dk_at dksX5_isEater_0 9 rfl rfl)
theorem dX5_isEater_10 : decode cX5_isEater 10 = .ok (.invokestatic 110, 3) := dk_184 0 110 (dk_at dksX5_isEater_0 10 rfl rfl)
theorem dX5_isEater_13 : decode cX5_isEater 13 = .ok (.ireturn, 1) := dk_172 (dk_at dksX5_isEater_0 13 rfl rfl)
abbrev cX5_keepsStep : ByteArray := prog_23_method_9_code
def yX5_keepsStep : MethodName := ⟨RX5, "keepsStep", "()V"⟩
def dkwX5_keepsStep_4 : List UInt8 := [132, 1, 1, 167, 255, 216, 42, 180, 0, 7, 6, 92, 46, 4, 96, 79, 177]
abbrev dktX5_keepsStep_4 : List UInt8 := dkwX5_keepsStep_4 ++ []
def dkwX5_keepsStep_3 : List UInt8 := [17, 1, 99, 42, 180, 0, 7, 6, 46, 104, 96, 27, 96, 42, 180, 0, 7, 16, 110, 27, 96, 46, 79]
abbrev dktX5_keepsStep_3 : List UInt8 := dkwX5_keepsStep_3 ++ dktX5_keepsStep_4
def dkwX5_keepsStep_2 : List UInt8 := [180, 0, 7, 6, 16, 29, 79, 3, 60, 27, 17, 1, 99, 162, 0, 39, 42, 180, 0, 7, 17, 1, 214]
abbrev dktX5_keepsStep_2 : List UInt8 := dkwX5_keepsStep_2 ++ dktX5_keepsStep_3
def dkwX5_keepsStep_1 : List UInt8 := [180, 0, 7, 27, 42, 180, 0, 7, 27, 17, 1, 99, 96, 46, 79, 132, 1, 1, 167, 255, 230, 42]
abbrev dktX5_keepsStep_1 : List UInt8 := dkwX5_keepsStep_1 ++ dktX5_keepsStep_2
def dkwX5_keepsStep_0 : List UInt8 := [42, 180, 0, 7, 6, 46, 16, 30, 160, 0, 44, 17, 1, 214, 60, 27, 17, 42, 13, 162, 0, 25, 42]
abbrev dktX5_keepsStep_0 : List UInt8 := dkwX5_keepsStep_0 ++ dktX5_keepsStep_1
theorem dksX5_keepsStep_0 : cX5_keepsStep.data.toList.drop 0 = dktX5_keepsStep_0 := by decide +kernel
theorem dksX5_keepsStep_1 : cX5_keepsStep.data.toList.drop 23 = dktX5_keepsStep_1 := dk_seg dksX5_keepsStep_0 23 rfl rfl
theorem dksX5_keepsStep_2 : cX5_keepsStep.data.toList.drop 45 = dktX5_keepsStep_2 := dk_seg dksX5_keepsStep_1 22 rfl rfl
theorem dksX5_keepsStep_3 : cX5_keepsStep.data.toList.drop 68 = dktX5_keepsStep_3 := dk_seg dksX5_keepsStep_2 23 rfl rfl
theorem dksX5_keepsStep_4 : cX5_keepsStep.data.toList.drop 91 = dktX5_keepsStep_4 := dk_seg dksX5_keepsStep_3 23 rfl rfl
theorem dX5_keepsStep_0 : decode cX5_keepsStep 0 = .ok (.aload_n 0, 1) := dk_42 (dk_at dksX5_keepsStep_0 0 rfl rfl)
theorem dX5_keepsStep_1 : decode cX5_keepsStep 1 = .ok (.getfield 7, 3) := dk_180 0 7 (dk_at dksX5_keepsStep_0 1 rfl rfl)
theorem dX5_keepsStep_4 : decode cX5_keepsStep 4 = .ok (.iconst 3, 1) := dk_6 (dk_at dksX5_keepsStep_0 4 rfl rfl)
theorem dX5_keepsStep_5 : decode cX5_keepsStep 5 = .ok (.iaload, 1) := dk_46 (dk_at dksX5_keepsStep_0 5 rfl rfl)
theorem dX5_keepsStep_6 : decode cX5_keepsStep 6 = .ok (.bipush 30, 2) := dk_16 30 (dk_at dksX5_keepsStep_0 6 rfl rfl)
theorem dX5_keepsStep_8 : decode cX5_keepsStep 8 = .ok (.if_icmp .ne 44, 3) := dk_160 0 44 (dk_at dksX5_keepsStep_0 8 rfl rfl)
theorem dX5_keepsStep_11 : decode cX5_keepsStep 11 = .ok (.sipush 470, 3) := dk_17 1 214 (dk_at dksX5_keepsStep_0 11 rfl rfl)
theorem dX5_keepsStep_14 : decode cX5_keepsStep 14 = .ok (.istore_n 1, 1) := dk_60 (dk_at dksX5_keepsStep_0 14 rfl rfl)
theorem dX5_keepsStep_15 : decode cX5_keepsStep 15 = .ok (.iload_n 1, 1) := dk_27 (dk_at dksX5_keepsStep_0 15 rfl rfl)
theorem dX5_keepsStep_16 : decode cX5_keepsStep 16 = .ok (.sipush 10765, 3) := dk_17 42 13 (dk_at dksX5_keepsStep_0 16 rfl rfl)
theorem dX5_keepsStep_19 : decode cX5_keepsStep 19 = .ok (.if_icmp .ge 25, 3) := dk_162 0 25 (dk_at dksX5_keepsStep_0 19 rfl rfl)
theorem dX5_keepsStep_22 : decode cX5_keepsStep 22 = .ok (.aload_n 0, 1) := dk_42 (dk_at dksX5_keepsStep_0 22 rfl rfl)
theorem dX5_keepsStep_23 : decode cX5_keepsStep 23 = .ok (.getfield 7, 3) := dk_180 0 7 (dk_at dksX5_keepsStep_1 0 rfl rfl)
theorem dX5_keepsStep_26 : decode cX5_keepsStep 26 = .ok (.iload_n 1, 1) := dk_27 (dk_at dksX5_keepsStep_1 3 rfl rfl)
theorem dX5_keepsStep_27 : decode cX5_keepsStep 27 = .ok (.aload_n 0, 1) := dk_42 (dk_at dksX5_keepsStep_1 4 rfl rfl)
theorem dX5_keepsStep_28 : decode cX5_keepsStep 28 = .ok (.getfield 7, 3) := dk_180 0 7 (dk_at dksX5_keepsStep_1 5 rfl rfl)
theorem dX5_keepsStep_31 : decode cX5_keepsStep 31 = .ok (.iload_n 1, 1) := dk_27 (dk_at dksX5_keepsStep_1 8 rfl rfl)
theorem dX5_keepsStep_32 : decode cX5_keepsStep 32 = .ok (.sipush 355, 3) := dk_17 1 99 (dk_at dksX5_keepsStep_1 9 rfl rfl)
theorem dX5_keepsStep_35 : decode cX5_keepsStep 35 = .ok (.iadd, 1) := dk_96 (dk_at dksX5_keepsStep_1 12 rfl rfl)
theorem dX5_keepsStep_36 : decode cX5_keepsStep 36 = .ok (.iaload, 1) := dk_46 (dk_at dksX5_keepsStep_1 13 rfl rfl)
theorem dX5_keepsStep_37 : decode cX5_keepsStep 37 = .ok (.iastore, 1) := dk_79 (dk_at dksX5_keepsStep_1 14 rfl rfl)
theorem dX5_keepsStep_38 : decode cX5_keepsStep 38 = .ok (.iinc 1 1, 3) := dk_132 1 1 (dk_at dksX5_keepsStep_1 15 rfl rfl)
theorem dX5_keepsStep_41 : decode cX5_keepsStep 41 = .ok (.goto (-26), 3) := dk_167 255 230 (dk_at dksX5_keepsStep_1 18 rfl rfl)
theorem dX5_keepsStep_44 : decode cX5_keepsStep 44 = .ok (.aload_n 0, 1) := dk_42 (dk_at dksX5_keepsStep_1 21 rfl rfl)
theorem dX5_keepsStep_45 : decode cX5_keepsStep 45 = .ok (.getfield 7, 3) := dk_180 0 7 (dk_at dksX5_keepsStep_2 0 rfl rfl)
theorem dX5_keepsStep_48 : decode cX5_keepsStep 48 = .ok (.iconst 3, 1) := dk_6 (dk_at dksX5_keepsStep_2 3 rfl rfl)
theorem dX5_keepsStep_49 : decode cX5_keepsStep 49 = .ok (.bipush 29, 2) := dk_16 29 (dk_at dksX5_keepsStep_2 4 rfl rfl)
theorem dX5_keepsStep_51 : decode cX5_keepsStep 51 = .ok (.iastore, 1) := dk_79 (dk_at dksX5_keepsStep_2 6 rfl rfl)
theorem dX5_keepsStep_52 : decode cX5_keepsStep 52 = .ok (.iconst 0, 1) := dk_3 (dk_at dksX5_keepsStep_2 7 rfl rfl)
theorem dX5_keepsStep_53 : decode cX5_keepsStep 53 = .ok (.istore_n 1, 1) := dk_60 (dk_at dksX5_keepsStep_2 8 rfl rfl)
theorem dX5_keepsStep_54 : decode cX5_keepsStep 54 = .ok (.iload_n 1, 1) := dk_27 (dk_at dksX5_keepsStep_2 9 rfl rfl)
theorem dX5_keepsStep_55 : decode cX5_keepsStep 55 = .ok (.sipush 355, 3) := dk_17 1 99 (dk_at dksX5_keepsStep_2 10 rfl rfl)
theorem dX5_keepsStep_58 : decode cX5_keepsStep 58 = .ok (.if_icmp .ge 39, 3) := dk_162 0 39 (dk_at dksX5_keepsStep_2 13 rfl rfl)
theorem dX5_keepsStep_61 : decode cX5_keepsStep 61 = .ok (.aload_n 0, 1) := dk_42 (dk_at dksX5_keepsStep_2 16 rfl rfl)
theorem dX5_keepsStep_62 : decode cX5_keepsStep 62 = .ok (.getfield 7, 3) := dk_180 0 7 (dk_at dksX5_keepsStep_2 17 rfl rfl)
theorem dX5_keepsStep_65 : decode cX5_keepsStep 65 = .ok (.sipush 470, 3) := dk_17 1 214 (dk_at dksX5_keepsStep_2 20 rfl rfl)
theorem dX5_keepsStep_68 : decode cX5_keepsStep 68 = .ok (.sipush 355, 3) := dk_17 1 99 (dk_at dksX5_keepsStep_3 0 rfl rfl)
theorem dX5_keepsStep_71 : decode cX5_keepsStep 71 = .ok (.aload_n 0, 1) := dk_42 (dk_at dksX5_keepsStep_3 3 rfl rfl)
theorem dX5_keepsStep_72 : decode cX5_keepsStep 72 = .ok (.getfield 7, 3) := dk_180 0 7 (dk_at dksX5_keepsStep_3 4 rfl rfl)
theorem dX5_keepsStep_75 : decode cX5_keepsStep 75 = .ok (.iconst 3, 1) := dk_6 (dk_at dksX5_keepsStep_3 7 rfl rfl)
theorem dX5_keepsStep_76 : decode cX5_keepsStep 76 = .ok (.iaload, 1) := dk_46 (dk_at dksX5_keepsStep_3 8 rfl rfl)
theorem dX5_keepsStep_77 : decode cX5_keepsStep 77 = .ok (.imul, 1) := dk_104 (dk_at dksX5_keepsStep_3 9 rfl rfl)
theorem dX5_keepsStep_78 : decode cX5_keepsStep 78 = .ok (.iadd, 1) := dk_96 (dk_at dksX5_keepsStep_3 10 rfl rfl)
theorem dX5_keepsStep_79 : decode cX5_keepsStep 79 = .ok (.iload_n 1, 1) := dk_27 (dk_at dksX5_keepsStep_3 11 rfl rfl)
theorem dX5_keepsStep_80 : decode cX5_keepsStep 80 = .ok (.iadd, 1) := dk_96 (dk_at dksX5_keepsStep_3 12 rfl rfl)
theorem dX5_keepsStep_81 : decode cX5_keepsStep 81 = .ok (.aload_n 0, 1) := dk_42 (dk_at dksX5_keepsStep_3 13 rfl rfl)
theorem dX5_keepsStep_82 : decode cX5_keepsStep 82 = .ok (.getfield 7, 3) := dk_180 0 7 (dk_at dksX5_keepsStep_3 14 rfl rfl)
theorem dX5_keepsStep_85 : decode cX5_keepsStep 85 = .ok (.bipush 110, 2) := dk_16 110 (dk_at dksX5_keepsStep_3 17 rfl rfl)
theorem dX5_keepsStep_87 : decode cX5_keepsStep 87 = .ok (.iload_n 1, 1) := dk_27 (dk_at dksX5_keepsStep_3 19 rfl rfl)
theorem dX5_keepsStep_88 : decode cX5_keepsStep 88 = .ok (.iadd, 1) := dk_96 (dk_at dksX5_keepsStep_3 20 rfl rfl)
theorem dX5_keepsStep_89 : decode cX5_keepsStep 89 = .ok (.iaload, 1) := dk_46 (dk_at dksX5_keepsStep_3 21 rfl rfl)
theorem dX5_keepsStep_90 : decode cX5_keepsStep 90 = .ok (.iastore, 1) := dk_79 (dk_at dksX5_keepsStep_3 22 rfl rfl)
theorem dX5_keepsStep_91 : decode cX5_keepsStep 91 = .ok (.iinc 1 1, 3) := dk_132 1 1 (dk_at dksX5_keepsStep_4 0 rfl rfl)
theorem dX5_keepsStep_94 : decode cX5_keepsStep 94 = .ok (.goto (-40), 3) := dk_167 255 216 (dk_at dksX5_keepsStep_4 3 rfl rfl)
theorem dX5_keepsStep_97 : decode cX5_keepsStep 97 = .ok (.aload_n 0, 1) := dk_42 (dk_at dksX5_keepsStep_4 6 rfl rfl)
theorem dX5_keepsStep_98 : decode cX5_keepsStep 98 = .ok (.getfield 7, 3) := dk_180 0 7 (dk_at dksX5_keepsStep_4 7 rfl rfl)
theorem dX5_keepsStep_101 : decode cX5_keepsStep 101 = .ok (.iconst 3, 1) := dk_6 (dk_at dksX5_keepsStep_4 10 rfl rfl)
theorem dX5_keepsStep_102 : decode cX5_keepsStep 102 = .ok (.dup2, 1) := dk_92 (dk_at dksX5_keepsStep_4 11 rfl rfl)
theorem dX5_keepsStep_103 : decode cX5_keepsStep 103 = .ok (.iaload, 1) := dk_46 (dk_at dksX5_keepsStep_4 12 rfl rfl)
theorem dX5_keepsStep_104 : decode cX5_keepsStep 104 = .ok (.iconst 1, 1) := dk_4 (dk_at dksX5_keepsStep_4 13 rfl rfl)
theorem dX5_keepsStep_105 : decode cX5_keepsStep 105 = .ok (.iadd, 1) := dk_96 (dk_at dksX5_keepsStep_4 14 rfl rfl)
theorem dX5_keepsStep_106 : decode cX5_keepsStep 106 = .ok (.iastore, 1) := dk_79 (dk_at dksX5_keepsStep_4 15 rfl rfl)
theorem dX5_keepsStep_107 : decode cX5_keepsStep 107 = .ok (.return_, 1) := dk_177 (dk_at dksX5_keepsStep_4 16 rfl rfl)
abbrev cX5_spoon : ByteArray := prog_23_method_57_code
def yX5_spoon : MethodName := ⟨RX5, "spoon", "(II)I"⟩
def dkwX5_spoon_6 : List UInt8 := [180, 0, 7, 21, 5, 6, 96, 29, 79, 42, 180, 0, 7, 17, 0, 132, 92, 46, 4, 96, 79, 29, 172]
abbrev dktX5_spoon_6 : List UInt8 := dkwX5_spoon_6 ++ []
def dkwX5_spoon_5 : List UInt8 := [42, 180, 0, 7, 21, 5, 4, 96, 21, 4, 79, 42, 180, 0, 7, 21, 5, 5, 96, 28, 79, 42]
abbrev dktX5_spoon_5 : List UInt8 := dkwX5_spoon_5 ++ dktX5_spoon_6
def dkwX5_spoon_4 : List UInt8 := [17, 0, 133, 7, 42, 180, 0, 7, 17, 0, 132, 46, 104, 96, 54, 5, 42, 180, 0, 7, 21, 5, 27, 79]
abbrev dktX5_spoon_4 : List UInt8 := dkwX5_spoon_4 ++ dktX5_spoon_5
def dkwX5_spoon_3 : List UInt8 := [104, 96, 28, 96, 92, 46, 29, 100, 79, 42, 180, 0, 7, 16, 123, 27, 96, 92, 46, 29, 96, 79]
abbrev dktX5_spoon_3 : List UInt8 := dkwX5_spoon_3 ++ dktX5_spoon_4
def dkwX5_spoon_2 : List UInt8 := [42, 182, 1, 90, 42, 180, 0, 7, 16, 114, 27, 96, 46, 54, 4, 42, 180, 0, 7, 16, 110, 5, 21, 4]
abbrev dktX5_spoon_2 : List UInt8 := dkwX5_spoon_2 ++ dktX5_spoon_3
def dkwX5_spoon_1 : List UInt8 := [16, 60, 160, 0, 5, 2, 172, 42, 182, 1, 93, 42, 27, 28, 182, 1, 81, 62, 29, 154, 0, 5, 2, 172]
abbrev dktX5_spoon_1 : List UInt8 := dkwX5_spoon_1 ++ dktX5_spoon_2
def dkwX5_spoon_0 : List UInt8 := [42, 27, 182, 1, 87, 153, 0, 23, 28, 184, 0, 114, 153, 0, 16, 42, 180, 0, 7, 17, 0, 132, 46]
abbrev dktX5_spoon_0 : List UInt8 := dkwX5_spoon_0 ++ dktX5_spoon_1
theorem dksX5_spoon_0 : cX5_spoon.data.toList.drop 0 = dktX5_spoon_0 := by decide +kernel
theorem dksX5_spoon_1 : cX5_spoon.data.toList.drop 23 = dktX5_spoon_1 := dk_seg dksX5_spoon_0 23 rfl rfl
theorem dksX5_spoon_2 : cX5_spoon.data.toList.drop 47 = dktX5_spoon_2 := dk_seg dksX5_spoon_1 24 rfl rfl
theorem dksX5_spoon_3 : cX5_spoon.data.toList.drop 71 = dktX5_spoon_3 := dk_seg dksX5_spoon_2 24 rfl rfl
theorem dksX5_spoon_4 : cX5_spoon.data.toList.drop 93 = dktX5_spoon_4 := dk_seg dksX5_spoon_3 22 rfl rfl
theorem dksX5_spoon_5 : cX5_spoon.data.toList.drop 117 = dktX5_spoon_5 := dk_seg dksX5_spoon_4 24 rfl rfl
theorem dksX5_spoon_6 : cX5_spoon.data.toList.drop 139 = dktX5_spoon_6 := dk_seg dksX5_spoon_5 22 rfl rfl
theorem dX5_spoon_0 : decode cX5_spoon 0 = .ok (.aload_n 0, 1) := dk_42 (dk_at dksX5_spoon_0 0 rfl rfl)
theorem dX5_spoon_1 : decode cX5_spoon 1 = .ok (.iload_n 1, 1) := dk_27 (dk_at dksX5_spoon_0 1 rfl rfl)
theorem dX5_spoon_2 : decode cX5_spoon 2 = .ok (.invokevirtual 343, 3) := dk_182 1 87 (dk_at dksX5_spoon_0 2 rfl rfl)
theorem dX5_spoon_5 : decode cX5_spoon 5 = .ok (.ifCond .eq 23, 3) := dk_153 0 23 (dk_at dksX5_spoon_0 5 rfl rfl)
theorem dX5_spoon_8 : decode cX5_spoon 8 = .ok (.iload_n 2, 1) := dk_28 (dk_at dksX5_spoon_0 8 rfl rfl)
theorem dX5_spoon_9 : decode cX5_spoon 9 = .ok (.invokestatic 114, 3) := dk_184 0 114 (dk_at dksX5_spoon_0 9 rfl rfl)
theorem dX5_spoon_12 : decode cX5_spoon 12 = .ok (.ifCond .eq 16, 3) := dk_153 0 16 (dk_at dksX5_spoon_0 12 rfl rfl)
theorem dX5_spoon_15 : decode cX5_spoon 15 = .ok (.aload_n 0, 1) := dk_42 (dk_at dksX5_spoon_0 15 rfl rfl)
theorem dX5_spoon_16 : decode cX5_spoon 16 = .ok (.getfield 7, 3) := dk_180 0 7 (dk_at dksX5_spoon_0 16 rfl rfl)
theorem dX5_spoon_19 : decode cX5_spoon 19 = .ok (.sipush 132, 3) := dk_17 0 132 (dk_at dksX5_spoon_0 19 rfl rfl)
theorem dX5_spoon_22 : decode cX5_spoon 22 = .ok (.iaload, 1) := dk_46 (dk_at dksX5_spoon_0 22 rfl rfl)
theorem dX5_spoon_23 : decode cX5_spoon 23 = .ok (.bipush 60, 2) := dk_16 60 (dk_at dksX5_spoon_1 0 rfl rfl)
theorem dX5_spoon_25 : decode cX5_spoon 25 = .ok (.if_icmp .ne 5, 3) := dk_160 0 5 (dk_at dksX5_spoon_1 2 rfl rfl)
theorem dX5_spoon_28 : decode cX5_spoon 28 = .ok (.iconst (-1), 1) := dk_2 (dk_at dksX5_spoon_1 5 rfl rfl)
theorem dX5_spoon_29 : decode cX5_spoon 29 = .ok (.ireturn, 1) := dk_172 (dk_at dksX5_spoon_1 6 rfl rfl)
theorem dX5_spoon_30 : decode cX5_spoon 30 = .ok (.aload_n 0, 1) := dk_42 (dk_at dksX5_spoon_1 7 rfl rfl)
theorem dX5_spoon_31 : decode cX5_spoon 31 = .ok (.invokevirtual 349, 3) := dk_182 1 93 (dk_at dksX5_spoon_1 8 rfl rfl)
theorem dX5_spoon_34 : decode cX5_spoon 34 = .ok (.aload_n 0, 1) := dk_42 (dk_at dksX5_spoon_1 11 rfl rfl)
theorem dX5_spoon_35 : decode cX5_spoon 35 = .ok (.iload_n 1, 1) := dk_27 (dk_at dksX5_spoon_1 12 rfl rfl)
theorem dX5_spoon_36 : decode cX5_spoon 36 = .ok (.iload_n 2, 1) := dk_28 (dk_at dksX5_spoon_1 13 rfl rfl)
theorem dX5_spoon_37 : decode cX5_spoon 37 = .ok (.invokevirtual 337, 3) := dk_182 1 81 (dk_at dksX5_spoon_1 14 rfl rfl)
theorem dX5_spoon_40 : decode cX5_spoon 40 = .ok (.istore_n 3, 1) := dk_62 (dk_at dksX5_spoon_1 17 rfl rfl)
theorem dX5_spoon_41 : decode cX5_spoon 41 = .ok (.iload_n 3, 1) := dk_29 (dk_at dksX5_spoon_1 18 rfl rfl)
theorem dX5_spoon_42 : decode cX5_spoon 42 = .ok (.ifCond .ne 5, 3) := dk_154 0 5 (dk_at dksX5_spoon_1 19 rfl rfl)
theorem dX5_spoon_45 : decode cX5_spoon 45 = .ok (.iconst (-1), 1) := dk_2 (dk_at dksX5_spoon_1 22 rfl rfl)
theorem dX5_spoon_46 : decode cX5_spoon 46 = .ok (.ireturn, 1) := dk_172 (dk_at dksX5_spoon_1 23 rfl rfl)
theorem dX5_spoon_47 : decode cX5_spoon 47 = .ok (.aload_n 0, 1) := dk_42 (dk_at dksX5_spoon_2 0 rfl rfl)
theorem dX5_spoon_48 : decode cX5_spoon 48 = .ok (.invokevirtual 346, 3) := dk_182 1 90 (dk_at dksX5_spoon_2 1 rfl rfl)
theorem dX5_spoon_51 : decode cX5_spoon 51 = .ok (.aload_n 0, 1) := dk_42 (dk_at dksX5_spoon_2 4 rfl rfl)
theorem dX5_spoon_52 : decode cX5_spoon 52 = .ok (.getfield 7, 3) := dk_180 0 7 (dk_at dksX5_spoon_2 5 rfl rfl)
theorem dX5_spoon_55 : decode cX5_spoon 55 = .ok (.bipush 114, 2) := dk_16 114 (dk_at dksX5_spoon_2 8 rfl rfl)
theorem dX5_spoon_57 : decode cX5_spoon 57 = .ok (.iload_n 1, 1) := dk_27 (dk_at dksX5_spoon_2 10 rfl rfl)
theorem dX5_spoon_58 : decode cX5_spoon 58 = .ok (.iadd, 1) := dk_96 (dk_at dksX5_spoon_2 11 rfl rfl)
theorem dX5_spoon_59 : decode cX5_spoon 59 = .ok (.iaload, 1) := dk_46 (dk_at dksX5_spoon_2 12 rfl rfl)
theorem dX5_spoon_60 : decode cX5_spoon 60 = .ok (.istore 4, 2) := dk_54 4 (dk_at dksX5_spoon_2 13 rfl rfl)
theorem dX5_spoon_62 : decode cX5_spoon 62 = .ok (.aload_n 0, 1) := dk_42 (dk_at dksX5_spoon_2 15 rfl rfl)
theorem dX5_spoon_63 : decode cX5_spoon 63 = .ok (.getfield 7, 3) := dk_180 0 7 (dk_at dksX5_spoon_2 16 rfl rfl)
theorem dX5_spoon_66 : decode cX5_spoon 66 = .ok (.bipush 110, 2) := dk_16 110 (dk_at dksX5_spoon_2 19 rfl rfl)
theorem dX5_spoon_68 : decode cX5_spoon 68 = .ok (.iconst 2, 1) := dk_5 (dk_at dksX5_spoon_2 21 rfl rfl)
theorem dX5_spoon_69 : decode cX5_spoon 69 = .ok (.iload 4, 2) := dk_21 4 (dk_at dksX5_spoon_2 22 rfl rfl)
theorem dX5_spoon_71 : decode cX5_spoon 71 = .ok (.imul, 1) := dk_104 (dk_at dksX5_spoon_3 0 rfl rfl)
theorem dX5_spoon_72 : decode cX5_spoon 72 = .ok (.iadd, 1) := dk_96 (dk_at dksX5_spoon_3 1 rfl rfl)
theorem dX5_spoon_73 : decode cX5_spoon 73 = .ok (.iload_n 2, 1) := dk_28 (dk_at dksX5_spoon_3 2 rfl rfl)
theorem dX5_spoon_74 : decode cX5_spoon 74 = .ok (.iadd, 1) := dk_96 (dk_at dksX5_spoon_3 3 rfl rfl)
theorem dX5_spoon_75 : decode cX5_spoon 75 = .ok (.dup2, 1) := dk_92 (dk_at dksX5_spoon_3 4 rfl rfl)
theorem dX5_spoon_76 : decode cX5_spoon 76 = .ok (.iaload, 1) := dk_46 (dk_at dksX5_spoon_3 5 rfl rfl)
theorem dX5_spoon_77 : decode cX5_spoon 77 = .ok (.iload_n 3, 1) := dk_29 (dk_at dksX5_spoon_3 6 rfl rfl)
theorem dX5_spoon_78 : decode cX5_spoon 78 = .ok (.isub, 1) := dk_100 (dk_at dksX5_spoon_3 7 rfl rfl)
theorem dX5_spoon_79 : decode cX5_spoon 79 = .ok (.iastore, 1) := dk_79 (dk_at dksX5_spoon_3 8 rfl rfl)
theorem dX5_spoon_80 : decode cX5_spoon 80 = .ok (.aload_n 0, 1) := dk_42 (dk_at dksX5_spoon_3 9 rfl rfl)
theorem dX5_spoon_81 : decode cX5_spoon 81 = .ok (.getfield 7, 3) := dk_180 0 7 (dk_at dksX5_spoon_3 10 rfl rfl)
theorem dX5_spoon_84 : decode cX5_spoon 84 = .ok (.bipush 123, 2) := dk_16 123 (dk_at dksX5_spoon_3 13 rfl rfl)
theorem dX5_spoon_86 : decode cX5_spoon 86 = .ok (.iload_n 1, 1) := dk_27 (dk_at dksX5_spoon_3 15 rfl rfl)
theorem dX5_spoon_87 : decode cX5_spoon 87 = .ok (.iadd, 1) := dk_96 (dk_at dksX5_spoon_3 16 rfl rfl)
theorem dX5_spoon_88 : decode cX5_spoon 88 = .ok (.dup2, 1) := dk_92 (dk_at dksX5_spoon_3 17 rfl rfl)
theorem dX5_spoon_89 : decode cX5_spoon 89 = .ok (.iaload, 1) := dk_46 (dk_at dksX5_spoon_3 18 rfl rfl)
theorem dX5_spoon_90 : decode cX5_spoon 90 = .ok (.iload_n 3, 1) := dk_29 (dk_at dksX5_spoon_3 19 rfl rfl)
theorem dX5_spoon_91 : decode cX5_spoon 91 = .ok (.iadd, 1) := dk_96 (dk_at dksX5_spoon_3 20 rfl rfl)
theorem dX5_spoon_92 : decode cX5_spoon 92 = .ok (.iastore, 1) := dk_79 (dk_at dksX5_spoon_3 21 rfl rfl)
theorem dX5_spoon_93 : decode cX5_spoon 93 = .ok (.sipush 133, 3) := dk_17 0 133 (dk_at dksX5_spoon_4 0 rfl rfl)
theorem dX5_spoon_96 : decode cX5_spoon 96 = .ok (.iconst 4, 1) := dk_7 (dk_at dksX5_spoon_4 3 rfl rfl)
theorem dX5_spoon_97 : decode cX5_spoon 97 = .ok (.aload_n 0, 1) := dk_42 (dk_at dksX5_spoon_4 4 rfl rfl)
theorem dX5_spoon_98 : decode cX5_spoon 98 = .ok (.getfield 7, 3) := dk_180 0 7 (dk_at dksX5_spoon_4 5 rfl rfl)
theorem dX5_spoon_101 : decode cX5_spoon 101 = .ok (.sipush 132, 3) := dk_17 0 132 (dk_at dksX5_spoon_4 8 rfl rfl)
theorem dX5_spoon_104 : decode cX5_spoon 104 = .ok (.iaload, 1) := dk_46 (dk_at dksX5_spoon_4 11 rfl rfl)
theorem dX5_spoon_105 : decode cX5_spoon 105 = .ok (.imul, 1) := dk_104 (dk_at dksX5_spoon_4 12 rfl rfl)
theorem dX5_spoon_106 : decode cX5_spoon 106 = .ok (.iadd, 1) := dk_96 (dk_at dksX5_spoon_4 13 rfl rfl)
theorem dX5_spoon_107 : decode cX5_spoon 107 = .ok (.istore 5, 2) := dk_54 5 (dk_at dksX5_spoon_4 14 rfl rfl)
theorem dX5_spoon_109 : decode cX5_spoon 109 = .ok (.aload_n 0, 1) := dk_42 (dk_at dksX5_spoon_4 16 rfl rfl)
theorem dX5_spoon_110 : decode cX5_spoon 110 = .ok (.getfield 7, 3) := dk_180 0 7 (dk_at dksX5_spoon_4 17 rfl rfl)
theorem dX5_spoon_113 : decode cX5_spoon 113 = .ok (.iload 5, 2) := dk_21 5 (dk_at dksX5_spoon_4 20 rfl rfl)
theorem dX5_spoon_115 : decode cX5_spoon 115 = .ok (.iload_n 1, 1) := dk_27 (dk_at dksX5_spoon_4 22 rfl rfl)
theorem dX5_spoon_116 : decode cX5_spoon 116 = .ok (.iastore, 1) := dk_79 (dk_at dksX5_spoon_4 23 rfl rfl)
theorem dX5_spoon_117 : decode cX5_spoon 117 = .ok (.aload_n 0, 1) := dk_42 (dk_at dksX5_spoon_5 0 rfl rfl)
theorem dX5_spoon_118 : decode cX5_spoon 118 = .ok (.getfield 7, 3) := dk_180 0 7 (dk_at dksX5_spoon_5 1 rfl rfl)
theorem dX5_spoon_121 : decode cX5_spoon 121 = .ok (.iload 5, 2) := dk_21 5 (dk_at dksX5_spoon_5 4 rfl rfl)
theorem dX5_spoon_123 : decode cX5_spoon 123 = .ok (.iconst 1, 1) := dk_4 (dk_at dksX5_spoon_5 6 rfl rfl)
theorem dX5_spoon_124 : decode cX5_spoon 124 = .ok (.iadd, 1) := dk_96 (dk_at dksX5_spoon_5 7 rfl rfl)
theorem dX5_spoon_125 : decode cX5_spoon 125 = .ok (.iload 4, 2) := dk_21 4 (dk_at dksX5_spoon_5 8 rfl rfl)
theorem dX5_spoon_127 : decode cX5_spoon 127 = .ok (.iastore, 1) := dk_79 (dk_at dksX5_spoon_5 10 rfl rfl)
theorem dX5_spoon_128 : decode cX5_spoon 128 = .ok (.aload_n 0, 1) := dk_42 (dk_at dksX5_spoon_5 11 rfl rfl)
theorem dX5_spoon_129 : decode cX5_spoon 129 = .ok (.getfield 7, 3) := dk_180 0 7 (dk_at dksX5_spoon_5 12 rfl rfl)
theorem dX5_spoon_132 : decode cX5_spoon 132 = .ok (.iload 5, 2) := dk_21 5 (dk_at dksX5_spoon_5 15 rfl rfl)
theorem dX5_spoon_134 : decode cX5_spoon 134 = .ok (.iconst 2, 1) := dk_5 (dk_at dksX5_spoon_5 17 rfl rfl)
theorem dX5_spoon_135 : decode cX5_spoon 135 = .ok (.iadd, 1) := dk_96 (dk_at dksX5_spoon_5 18 rfl rfl)
theorem dX5_spoon_136 : decode cX5_spoon 136 = .ok (.iload_n 2, 1) := dk_28 (dk_at dksX5_spoon_5 19 rfl rfl)
theorem dX5_spoon_137 : decode cX5_spoon 137 = .ok (.iastore, 1) := dk_79 (dk_at dksX5_spoon_5 20 rfl rfl)
theorem dX5_spoon_138 : decode cX5_spoon 138 = .ok (.aload_n 0, 1) := dk_42 (dk_at dksX5_spoon_5 21 rfl rfl)
theorem dX5_spoon_139 : decode cX5_spoon 139 = .ok (.getfield 7, 3) := dk_180 0 7 (dk_at dksX5_spoon_6 0 rfl rfl)
theorem dX5_spoon_142 : decode cX5_spoon 142 = .ok (.iload 5, 2) := dk_21 5 (dk_at dksX5_spoon_6 3 rfl rfl)
theorem dX5_spoon_144 : decode cX5_spoon 144 = .ok (.iconst 3, 1) := dk_6 (dk_at dksX5_spoon_6 5 rfl rfl)
theorem dX5_spoon_145 : decode cX5_spoon 145 = .ok (.iadd, 1) := dk_96 (dk_at dksX5_spoon_6 6 rfl rfl)
theorem dX5_spoon_146 : decode cX5_spoon 146 = .ok (.iload_n 3, 1) := dk_29 (dk_at dksX5_spoon_6 7 rfl rfl)
theorem dX5_spoon_147 : decode cX5_spoon 147 = .ok (.iastore, 1) := dk_79 (dk_at dksX5_spoon_6 8 rfl rfl)
theorem dX5_spoon_148 : decode cX5_spoon 148 = .ok (.aload_n 0, 1) := dk_42 (dk_at dksX5_spoon_6 9 rfl rfl)
theorem dX5_spoon_149 : decode cX5_spoon 149 = .ok (.getfield 7, 3) := dk_180 0 7 (dk_at dksX5_spoon_6 10 rfl rfl)
theorem dX5_spoon_152 : decode cX5_spoon 152 = .ok (.sipush 132, 3) := dk_17 0 132 (dk_at dksX5_spoon_6 13 rfl rfl)
theorem dX5_spoon_155 : decode cX5_spoon 155 = .ok (.dup2, 1) := dk_92 (dk_at dksX5_spoon_6 16 rfl rfl)
theorem dX5_spoon_156 : decode cX5_spoon 156 = .ok (.iaload, 1) := dk_46 (dk_at dksX5_spoon_6 17 rfl rfl)
theorem dX5_spoon_157 : decode cX5_spoon 157 = .ok (.iconst 1, 1) := dk_4 (dk_at dksX5_spoon_6 18 rfl rfl)
theorem dX5_spoon_158 : decode cX5_spoon 158 = .ok (.iadd, 1) := dk_96 (dk_at dksX5_spoon_6 19 rfl rfl)
theorem dX5_spoon_159 : decode cX5_spoon 159 = .ok (.iastore, 1) := dk_79 (dk_at dksX5_spoon_6 20 rfl rfl)
theorem dX5_spoon_160 : decode cX5_spoon 160 = .ok (.iload_n 3, 1) := dk_29 (dk_at dksX5_spoon_6 21 rfl rfl)
theorem dX5_spoon_161 : decode cX5_spoon 161 = .ok (.ireturn, 1) := dk_172 (dk_at dksX5_spoon_6 22 rfl rfl)
abbrev cX5_laysWorld : ByteArray := prog_23_method_47_code
def yX5_laysWorld : MethodName := ⟨RX5, "laysWorld", "()V"⟩
def dkwX5_laysWorld_3 : List UInt8 := [177]
abbrev dktX5_laysWorld_3 : List UInt8 := dkwX5_laysWorld_3 ++ []
def dkwX5_laysWorld_2 : List UInt8 := [16, 123, 27, 96, 46, 79, 132, 1, 1, 167, 255, 232, 42, 42, 180, 0, 7, 17, 0, 132, 46, 181, 1, 58]
abbrev dktX5_laysWorld_2 : List UInt8 := dkwX5_laysWorld_2 ++ dktX5_laysWorld_3
def dkwX5_laysWorld_1 : List UInt8 := [132, 1, 1, 167, 255, 233, 3, 60, 27, 16, 9, 162, 0, 24, 42, 180, 0, 88, 27, 42, 180, 0, 7]
abbrev dktX5_laysWorld_1 : List UInt8 := dkwX5_laysWorld_1 ++ dktX5_laysWorld_2
def dkwX5_laysWorld_0 : List UInt8 := [3, 60, 27, 7, 162, 0, 24, 42, 180, 0, 85, 27, 42, 180, 0, 7, 16, 110, 27, 96, 46, 79]
abbrev dktX5_laysWorld_0 : List UInt8 := dkwX5_laysWorld_0 ++ dktX5_laysWorld_1
theorem dksX5_laysWorld_0 : cX5_laysWorld.data.toList.drop 0 = dktX5_laysWorld_0 := by decide +kernel
theorem dksX5_laysWorld_1 : cX5_laysWorld.data.toList.drop 22 = dktX5_laysWorld_1 := dk_seg dksX5_laysWorld_0 22 rfl rfl
theorem dksX5_laysWorld_2 : cX5_laysWorld.data.toList.drop 45 = dktX5_laysWorld_2 := dk_seg dksX5_laysWorld_1 23 rfl rfl
theorem dksX5_laysWorld_3 : cX5_laysWorld.data.toList.drop 69 = dktX5_laysWorld_3 := dk_seg dksX5_laysWorld_2 24 rfl rfl
theorem dX5_laysWorld_0 : decode cX5_laysWorld 0 = .ok (.iconst 0, 1) := dk_3 (dk_at dksX5_laysWorld_0 0 rfl rfl)
theorem dX5_laysWorld_1 : decode cX5_laysWorld 1 = .ok (.istore_n 1, 1) := dk_60 (dk_at dksX5_laysWorld_0 1 rfl rfl)
theorem dX5_laysWorld_2 : decode cX5_laysWorld 2 = .ok (.iload_n 1, 1) := dk_27 (dk_at dksX5_laysWorld_0 2 rfl rfl)
theorem dX5_laysWorld_3 : decode cX5_laysWorld 3 = .ok (.iconst 4, 1) := dk_7 (dk_at dksX5_laysWorld_0 3 rfl rfl)
theorem dX5_laysWorld_4 : decode cX5_laysWorld 4 = .ok (.if_icmp .ge 24, 3) := dk_162 0 24 (dk_at dksX5_laysWorld_0 4 rfl rfl)
theorem dX5_laysWorld_7 : decode cX5_laysWorld 7 = .ok (.aload_n 0, 1) := dk_42 (dk_at dksX5_laysWorld_0 7 rfl rfl)
theorem dX5_laysWorld_8 : decode cX5_laysWorld 8 = .ok (.getfield 85, 3) := dk_180 0 85 (dk_at dksX5_laysWorld_0 8 rfl rfl)
theorem dX5_laysWorld_11 : decode cX5_laysWorld 11 = .ok (.iload_n 1, 1) := dk_27 (dk_at dksX5_laysWorld_0 11 rfl rfl)
theorem dX5_laysWorld_12 : decode cX5_laysWorld 12 = .ok (.aload_n 0, 1) := dk_42 (dk_at dksX5_laysWorld_0 12 rfl rfl)
theorem dX5_laysWorld_13 : decode cX5_laysWorld 13 = .ok (.getfield 7, 3) := dk_180 0 7 (dk_at dksX5_laysWorld_0 13 rfl rfl)
theorem dX5_laysWorld_16 : decode cX5_laysWorld 16 = .ok (.bipush 110, 2) := dk_16 110 (dk_at dksX5_laysWorld_0 16 rfl rfl)
theorem dX5_laysWorld_18 : decode cX5_laysWorld 18 = .ok (.iload_n 1, 1) := dk_27 (dk_at dksX5_laysWorld_0 18 rfl rfl)
theorem dX5_laysWorld_19 : decode cX5_laysWorld 19 = .ok (.iadd, 1) := dk_96 (dk_at dksX5_laysWorld_0 19 rfl rfl)
theorem dX5_laysWorld_20 : decode cX5_laysWorld 20 = .ok (.iaload, 1) := dk_46 (dk_at dksX5_laysWorld_0 20 rfl rfl)
theorem dX5_laysWorld_21 : decode cX5_laysWorld 21 = .ok (.iastore, 1) := dk_79 (dk_at dksX5_laysWorld_0 21 rfl rfl)
theorem dX5_laysWorld_22 : decode cX5_laysWorld 22 = .ok (.iinc 1 1, 3) := dk_132 1 1 (dk_at dksX5_laysWorld_1 0 rfl rfl)
theorem dX5_laysWorld_25 : decode cX5_laysWorld 25 = .ok (.goto (-23), 3) := dk_167 255 233 (dk_at dksX5_laysWorld_1 3 rfl rfl)
theorem dX5_laysWorld_28 : decode cX5_laysWorld 28 = .ok (.iconst 0, 1) := dk_3 (dk_at dksX5_laysWorld_1 6 rfl rfl)
theorem dX5_laysWorld_29 : decode cX5_laysWorld 29 = .ok (.istore_n 1, 1) := dk_60 (dk_at dksX5_laysWorld_1 7 rfl rfl)
theorem dX5_laysWorld_30 : decode cX5_laysWorld 30 = .ok (.iload_n 1, 1) := dk_27 (dk_at dksX5_laysWorld_1 8 rfl rfl)
theorem dX5_laysWorld_31 : decode cX5_laysWorld 31 = .ok (.bipush 9, 2) := dk_16 9 (dk_at dksX5_laysWorld_1 9 rfl rfl)
theorem dX5_laysWorld_33 : decode cX5_laysWorld 33 = .ok (.if_icmp .ge 24, 3) := dk_162 0 24 (dk_at dksX5_laysWorld_1 11 rfl rfl)
theorem dX5_laysWorld_36 : decode cX5_laysWorld 36 = .ok (.aload_n 0, 1) := dk_42 (dk_at dksX5_laysWorld_1 14 rfl rfl)
theorem dX5_laysWorld_37 : decode cX5_laysWorld 37 = .ok (.getfield 88, 3) := dk_180 0 88 (dk_at dksX5_laysWorld_1 15 rfl rfl)
theorem dX5_laysWorld_40 : decode cX5_laysWorld 40 = .ok (.iload_n 1, 1) := dk_27 (dk_at dksX5_laysWorld_1 18 rfl rfl)
theorem dX5_laysWorld_41 : decode cX5_laysWorld 41 = .ok (.aload_n 0, 1) := dk_42 (dk_at dksX5_laysWorld_1 19 rfl rfl)
theorem dX5_laysWorld_42 : decode cX5_laysWorld 42 = .ok (.getfield 7, 3) := dk_180 0 7 (dk_at dksX5_laysWorld_1 20 rfl rfl)
theorem dX5_laysWorld_45 : decode cX5_laysWorld 45 = .ok (.bipush 123, 2) := dk_16 123 (dk_at dksX5_laysWorld_2 0 rfl rfl)
theorem dX5_laysWorld_47 : decode cX5_laysWorld 47 = .ok (.iload_n 1, 1) := dk_27 (dk_at dksX5_laysWorld_2 2 rfl rfl)
theorem dX5_laysWorld_48 : decode cX5_laysWorld 48 = .ok (.iadd, 1) := dk_96 (dk_at dksX5_laysWorld_2 3 rfl rfl)
theorem dX5_laysWorld_49 : decode cX5_laysWorld 49 = .ok (.iaload, 1) := dk_46 (dk_at dksX5_laysWorld_2 4 rfl rfl)
theorem dX5_laysWorld_50 : decode cX5_laysWorld 50 = .ok (.iastore, 1) := dk_79 (dk_at dksX5_laysWorld_2 5 rfl rfl)
theorem dX5_laysWorld_51 : decode cX5_laysWorld 51 = .ok (.iinc 1 1, 3) := dk_132 1 1 (dk_at dksX5_laysWorld_2 6 rfl rfl)
theorem dX5_laysWorld_54 : decode cX5_laysWorld 54 = .ok (.goto (-24), 3) := dk_167 255 232 (dk_at dksX5_laysWorld_2 9 rfl rfl)
theorem dX5_laysWorld_57 : decode cX5_laysWorld 57 = .ok (.aload_n 0, 1) := dk_42 (dk_at dksX5_laysWorld_2 12 rfl rfl)
theorem dX5_laysWorld_58 : decode cX5_laysWorld 58 = .ok (.aload_n 0, 1) := dk_42 (dk_at dksX5_laysWorld_2 13 rfl rfl)
theorem dX5_laysWorld_59 : decode cX5_laysWorld 59 = .ok (.getfield 7, 3) := dk_180 0 7 (dk_at dksX5_laysWorld_2 14 rfl rfl)
theorem dX5_laysWorld_62 : decode cX5_laysWorld 62 = .ok (.sipush 132, 3) := dk_17 0 132 (dk_at dksX5_laysWorld_2 17 rfl rfl)
theorem dX5_laysWorld_65 : decode cX5_laysWorld 65 = .ok (.iaload, 1) := dk_46 (dk_at dksX5_laysWorld_2 20 rfl rfl)
theorem dX5_laysWorld_66 : decode cX5_laysWorld 66 = .ok (.putfield 314, 3) := dk_181 1 58 (dk_at dksX5_laysWorld_2 21 rfl rfl)
theorem dX5_laysWorld_69 : decode cX5_laysWorld 69 = .ok (.return_, 1) := dk_177 (dk_at dksX5_laysWorld_3 0 rfl rfl)
abbrev cX5_spoonOf : ByteArray := prog_23_method_52_code
def yX5_spoonOf : MethodName := ⟨RX5, "spoonOf", "(II)I"⟩
def dkwX5_spoonOf_5 : List UInt8 := [21, 7, 21, 4, 21, 5, 184, 1, 78, 184, 1, 78, 172]
abbrev dktX5_spoonOf_5 : List UInt8 := dkwX5_spoonOf_5 ++ []
def dkwX5_spoonOf_4 : List UInt8 := [6, 27, 104, 96, 46, 4, 96, 167, 0, 15, 42, 21, 6, 182, 1, 67, 3, 16, 99, 184, 1, 71, 54, 7]
abbrev dktX5_spoonOf_4 : List UInt8 := dkwX5_spoonOf_4 ++ dktX5_spoonOf_5
def dkwX5_spoonOf_3 : List UInt8 := [180, 1, 58, 79, 42, 180, 0, 78, 16, 7, 29, 79, 21, 6, 2, 160, 0, 19, 42, 180, 0, 7, 16, 10]
abbrev dktX5_spoonOf_3 : List UInt8 := dkwX5_spoonOf_3 ++ dktX5_spoonOf_4
def dkwX5_spoonOf_2 : List UInt8 := [42, 180, 0, 78, 7, 28, 79, 42, 180, 0, 78, 8, 21, 4, 79, 42, 180, 0, 78, 16, 6, 42]
abbrev dktX5_spoonOf_2 : List UInt8 := dkwX5_spoonOf_2 ++ dktX5_spoonOf_3
def dkwX5_spoonOf_1 : List UInt8 := [28, 96, 46, 54, 4, 42, 27, 182, 1, 75, 54, 5, 42, 3, 182, 1, 61, 54, 6, 42, 27, 182, 1, 64]
abbrev dktX5_spoonOf_1 : List UInt8 := dkwX5_spoonOf_1 ++ dktX5_spoonOf_2
def dkwX5_spoonOf_0 : List UInt8 := [42, 180, 0, 7, 16, 114, 27, 96, 46, 62, 29, 5, 160, 0, 5, 3, 172, 42, 180, 0, 85, 5, 29, 104]
abbrev dktX5_spoonOf_0 : List UInt8 := dkwX5_spoonOf_0 ++ dktX5_spoonOf_1
theorem dksX5_spoonOf_0 : cX5_spoonOf.data.toList.drop 0 = dktX5_spoonOf_0 := by decide +kernel
theorem dksX5_spoonOf_1 : cX5_spoonOf.data.toList.drop 24 = dktX5_spoonOf_1 := dk_seg dksX5_spoonOf_0 24 rfl rfl
theorem dksX5_spoonOf_2 : cX5_spoonOf.data.toList.drop 48 = dktX5_spoonOf_2 := dk_seg dksX5_spoonOf_1 24 rfl rfl
theorem dksX5_spoonOf_3 : cX5_spoonOf.data.toList.drop 70 = dktX5_spoonOf_3 := dk_seg dksX5_spoonOf_2 22 rfl rfl
theorem dksX5_spoonOf_4 : cX5_spoonOf.data.toList.drop 94 = dktX5_spoonOf_4 := dk_seg dksX5_spoonOf_3 24 rfl rfl
theorem dksX5_spoonOf_5 : cX5_spoonOf.data.toList.drop 118 = dktX5_spoonOf_5 := dk_seg dksX5_spoonOf_4 24 rfl rfl
theorem dX5_spoonOf_0 : decode cX5_spoonOf 0 = .ok (.aload_n 0, 1) := dk_42 (dk_at dksX5_spoonOf_0 0 rfl rfl)
theorem dX5_spoonOf_1 : decode cX5_spoonOf 1 = .ok (.getfield 7, 3) := dk_180 0 7 (dk_at dksX5_spoonOf_0 1 rfl rfl)
theorem dX5_spoonOf_4 : decode cX5_spoonOf 4 = .ok (.bipush 114, 2) := dk_16 114 (dk_at dksX5_spoonOf_0 4 rfl rfl)
theorem dX5_spoonOf_6 : decode cX5_spoonOf 6 = .ok (.iload_n 1, 1) := dk_27 (dk_at dksX5_spoonOf_0 6 rfl rfl)
theorem dX5_spoonOf_7 : decode cX5_spoonOf 7 = .ok (.iadd, 1) := dk_96 (dk_at dksX5_spoonOf_0 7 rfl rfl)
theorem dX5_spoonOf_8 : decode cX5_spoonOf 8 = .ok (.iaload, 1) := dk_46 (dk_at dksX5_spoonOf_0 8 rfl rfl)
theorem dX5_spoonOf_9 : decode cX5_spoonOf 9 = .ok (.istore_n 3, 1) := dk_62 (dk_at dksX5_spoonOf_0 9 rfl rfl)
theorem dX5_spoonOf_10 : decode cX5_spoonOf 10 = .ok (.iload_n 3, 1) := dk_29 (dk_at dksX5_spoonOf_0 10 rfl rfl)
theorem dX5_spoonOf_11 : decode cX5_spoonOf 11 = .ok (.iconst 2, 1) := dk_5 (dk_at dksX5_spoonOf_0 11 rfl rfl)
theorem dX5_spoonOf_12 : decode cX5_spoonOf 12 = .ok (.if_icmp .ne 5, 3) := dk_160 0 5 (dk_at dksX5_spoonOf_0 12 rfl rfl)
theorem dX5_spoonOf_15 : decode cX5_spoonOf 15 = .ok (.iconst 0, 1) := dk_3 (dk_at dksX5_spoonOf_0 15 rfl rfl)
theorem dX5_spoonOf_16 : decode cX5_spoonOf 16 = .ok (.ireturn, 1) := dk_172 (dk_at dksX5_spoonOf_0 16 rfl rfl)
theorem dX5_spoonOf_17 : decode cX5_spoonOf 17 = .ok (.aload_n 0, 1) := dk_42 (dk_at dksX5_spoonOf_0 17 rfl rfl)
theorem dX5_spoonOf_18 : decode cX5_spoonOf 18 = .ok (.getfield 85, 3) := dk_180 0 85 (dk_at dksX5_spoonOf_0 18 rfl rfl)
theorem dX5_spoonOf_21 : decode cX5_spoonOf 21 = .ok (.iconst 2, 1) := dk_5 (dk_at dksX5_spoonOf_0 21 rfl rfl)
theorem dX5_spoonOf_22 : decode cX5_spoonOf 22 = .ok (.iload_n 3, 1) := dk_29 (dk_at dksX5_spoonOf_0 22 rfl rfl)
theorem dX5_spoonOf_23 : decode cX5_spoonOf 23 = .ok (.imul, 1) := dk_104 (dk_at dksX5_spoonOf_0 23 rfl rfl)
theorem dX5_spoonOf_24 : decode cX5_spoonOf 24 = .ok (.iload_n 2, 1) := dk_28 (dk_at dksX5_spoonOf_1 0 rfl rfl)
theorem dX5_spoonOf_25 : decode cX5_spoonOf 25 = .ok (.iadd, 1) := dk_96 (dk_at dksX5_spoonOf_1 1 rfl rfl)
theorem dX5_spoonOf_26 : decode cX5_spoonOf 26 = .ok (.iaload, 1) := dk_46 (dk_at dksX5_spoonOf_1 2 rfl rfl)
theorem dX5_spoonOf_27 : decode cX5_spoonOf 27 = .ok (.istore 4, 2) := dk_54 4 (dk_at dksX5_spoonOf_1 3 rfl rfl)
theorem dX5_spoonOf_29 : decode cX5_spoonOf 29 = .ok (.aload_n 0, 1) := dk_42 (dk_at dksX5_spoonOf_1 5 rfl rfl)
theorem dX5_spoonOf_30 : decode cX5_spoonOf 30 = .ok (.iload_n 1, 1) := dk_27 (dk_at dksX5_spoonOf_1 6 rfl rfl)
theorem dX5_spoonOf_31 : decode cX5_spoonOf 31 = .ok (.invokevirtual 331, 3) := dk_182 1 75 (dk_at dksX5_spoonOf_1 7 rfl rfl)
theorem dX5_spoonOf_34 : decode cX5_spoonOf 34 = .ok (.istore 5, 2) := dk_54 5 (dk_at dksX5_spoonOf_1 10 rfl rfl)
theorem dX5_spoonOf_36 : decode cX5_spoonOf 36 = .ok (.aload_n 0, 1) := dk_42 (dk_at dksX5_spoonOf_1 12 rfl rfl)
theorem dX5_spoonOf_37 : decode cX5_spoonOf 37 = .ok (.iconst 0, 1) := dk_3 (dk_at dksX5_spoonOf_1 13 rfl rfl)
theorem dX5_spoonOf_38 : decode cX5_spoonOf 38 = .ok (.invokevirtual 317, 3) := dk_182 1 61 (dk_at dksX5_spoonOf_1 14 rfl rfl)
theorem dX5_spoonOf_41 : decode cX5_spoonOf 41 = .ok (.istore 6, 2) := dk_54 6 (dk_at dksX5_spoonOf_1 17 rfl rfl)
theorem dX5_spoonOf_43 : decode cX5_spoonOf 43 = .ok (.aload_n 0, 1) := dk_42 (dk_at dksX5_spoonOf_1 19 rfl rfl)
theorem dX5_spoonOf_44 : decode cX5_spoonOf 44 = .ok (.iload_n 1, 1) := dk_27 (dk_at dksX5_spoonOf_1 20 rfl rfl)
theorem dX5_spoonOf_45 : decode cX5_spoonOf 45 = .ok (.invokevirtual 320, 3) := dk_182 1 64 (dk_at dksX5_spoonOf_1 21 rfl rfl)
theorem dX5_spoonOf_48 : decode cX5_spoonOf 48 = .ok (.aload_n 0, 1) := dk_42 (dk_at dksX5_spoonOf_2 0 rfl rfl)
theorem dX5_spoonOf_49 : decode cX5_spoonOf 49 = .ok (.getfield 78, 3) := dk_180 0 78 (dk_at dksX5_spoonOf_2 1 rfl rfl)
theorem dX5_spoonOf_52 : decode cX5_spoonOf 52 = .ok (.iconst 4, 1) := dk_7 (dk_at dksX5_spoonOf_2 4 rfl rfl)
theorem dX5_spoonOf_53 : decode cX5_spoonOf 53 = .ok (.iload_n 2, 1) := dk_28 (dk_at dksX5_spoonOf_2 5 rfl rfl)
theorem dX5_spoonOf_54 : decode cX5_spoonOf 54 = .ok (.iastore, 1) := dk_79 (dk_at dksX5_spoonOf_2 6 rfl rfl)
theorem dX5_spoonOf_55 : decode cX5_spoonOf 55 = .ok (.aload_n 0, 1) := dk_42 (dk_at dksX5_spoonOf_2 7 rfl rfl)
theorem dX5_spoonOf_56 : decode cX5_spoonOf 56 = .ok (.getfield 78, 3) := dk_180 0 78 (dk_at dksX5_spoonOf_2 8 rfl rfl)
theorem dX5_spoonOf_59 : decode cX5_spoonOf 59 = .ok (.iconst 5, 1) := dk_8 (dk_at dksX5_spoonOf_2 11 rfl rfl)
theorem dX5_spoonOf_60 : decode cX5_spoonOf 60 = .ok (.iload 4, 2) := dk_21 4 (dk_at dksX5_spoonOf_2 12 rfl rfl)
theorem dX5_spoonOf_62 : decode cX5_spoonOf 62 = .ok (.iastore, 1) := dk_79 (dk_at dksX5_spoonOf_2 14 rfl rfl)
theorem dX5_spoonOf_63 : decode cX5_spoonOf 63 = .ok (.aload_n 0, 1) := dk_42 (dk_at dksX5_spoonOf_2 15 rfl rfl)
theorem dX5_spoonOf_64 : decode cX5_spoonOf 64 = .ok (.getfield 78, 3) := dk_180 0 78 (dk_at dksX5_spoonOf_2 16 rfl rfl)
theorem dX5_spoonOf_67 : decode cX5_spoonOf 67 = .ok (.bipush 6, 2) := dk_16 6 (dk_at dksX5_spoonOf_2 19 rfl rfl)
theorem dX5_spoonOf_69 : decode cX5_spoonOf 69 = .ok (.aload_n 0, 1) := dk_42 (dk_at dksX5_spoonOf_2 21 rfl rfl)
theorem dX5_spoonOf_70 : decode cX5_spoonOf 70 = .ok (.getfield 314, 3) := dk_180 1 58 (dk_at dksX5_spoonOf_3 0 rfl rfl)
theorem dX5_spoonOf_73 : decode cX5_spoonOf 73 = .ok (.iastore, 1) := dk_79 (dk_at dksX5_spoonOf_3 3 rfl rfl)
theorem dX5_spoonOf_74 : decode cX5_spoonOf 74 = .ok (.aload_n 0, 1) := dk_42 (dk_at dksX5_spoonOf_3 4 rfl rfl)
theorem dX5_spoonOf_75 : decode cX5_spoonOf 75 = .ok (.getfield 78, 3) := dk_180 0 78 (dk_at dksX5_spoonOf_3 5 rfl rfl)
theorem dX5_spoonOf_78 : decode cX5_spoonOf 78 = .ok (.bipush 7, 2) := dk_16 7 (dk_at dksX5_spoonOf_3 8 rfl rfl)
theorem dX5_spoonOf_80 : decode cX5_spoonOf 80 = .ok (.iload_n 3, 1) := dk_29 (dk_at dksX5_spoonOf_3 10 rfl rfl)
theorem dX5_spoonOf_81 : decode cX5_spoonOf 81 = .ok (.iastore, 1) := dk_79 (dk_at dksX5_spoonOf_3 11 rfl rfl)
theorem dX5_spoonOf_82 : decode cX5_spoonOf 82 = .ok (.iload 6, 2) := dk_21 6 (dk_at dksX5_spoonOf_3 12 rfl rfl)
theorem dX5_spoonOf_84 : decode cX5_spoonOf 84 = .ok (.iconst (-1), 1) := dk_2 (dk_at dksX5_spoonOf_3 14 rfl rfl)
theorem dX5_spoonOf_85 : decode cX5_spoonOf 85 = .ok (.if_icmp .ne 19, 3) := dk_160 0 19 (dk_at dksX5_spoonOf_3 15 rfl rfl)
theorem dX5_spoonOf_88 : decode cX5_spoonOf 88 = .ok (.aload_n 0, 1) := dk_42 (dk_at dksX5_spoonOf_3 18 rfl rfl)
theorem dX5_spoonOf_89 : decode cX5_spoonOf 89 = .ok (.getfield 7, 3) := dk_180 0 7 (dk_at dksX5_spoonOf_3 19 rfl rfl)
theorem dX5_spoonOf_92 : decode cX5_spoonOf 92 = .ok (.bipush 10, 2) := dk_16 10 (dk_at dksX5_spoonOf_3 22 rfl rfl)
theorem dX5_spoonOf_94 : decode cX5_spoonOf 94 = .ok (.iconst 3, 1) := dk_6 (dk_at dksX5_spoonOf_4 0 rfl rfl)
theorem dX5_spoonOf_95 : decode cX5_spoonOf 95 = .ok (.iload_n 1, 1) := dk_27 (dk_at dksX5_spoonOf_4 1 rfl rfl)
theorem dX5_spoonOf_96 : decode cX5_spoonOf 96 = .ok (.imul, 1) := dk_104 (dk_at dksX5_spoonOf_4 2 rfl rfl)
theorem dX5_spoonOf_97 : decode cX5_spoonOf 97 = .ok (.iadd, 1) := dk_96 (dk_at dksX5_spoonOf_4 3 rfl rfl)
theorem dX5_spoonOf_98 : decode cX5_spoonOf 98 = .ok (.iaload, 1) := dk_46 (dk_at dksX5_spoonOf_4 4 rfl rfl)
theorem dX5_spoonOf_99 : decode cX5_spoonOf 99 = .ok (.iconst 1, 1) := dk_4 (dk_at dksX5_spoonOf_4 5 rfl rfl)
theorem dX5_spoonOf_100 : decode cX5_spoonOf 100 = .ok (.iadd, 1) := dk_96 (dk_at dksX5_spoonOf_4 6 rfl rfl)
theorem dX5_spoonOf_101 : decode cX5_spoonOf 101 = .ok (.goto 15, 3) := dk_167 0 15 (dk_at dksX5_spoonOf_4 7 rfl rfl)
theorem dX5_spoonOf_104 : decode cX5_spoonOf 104 = .ok (.aload_n 0, 1) := dk_42 (dk_at dksX5_spoonOf_4 10 rfl rfl)
theorem dX5_spoonOf_105 : decode cX5_spoonOf 105 = .ok (.iload 6, 2) := dk_21 6 (dk_at dksX5_spoonOf_4 11 rfl rfl)
theorem dX5_spoonOf_107 : decode cX5_spoonOf 107 = .ok (.invokevirtual 323, 3) := dk_182 1 67 (dk_at dksX5_spoonOf_4 13 rfl rfl)
theorem dX5_spoonOf_110 : decode cX5_spoonOf 110 = .ok (.iconst 0, 1) := dk_3 (dk_at dksX5_spoonOf_4 16 rfl rfl)
theorem dX5_spoonOf_111 : decode cX5_spoonOf 111 = .ok (.bipush 99, 2) := dk_16 99 (dk_at dksX5_spoonOf_4 17 rfl rfl)
theorem dX5_spoonOf_113 : decode cX5_spoonOf 113 = .ok (.invokestatic 327, 3) := dk_184 1 71 (dk_at dksX5_spoonOf_4 19 rfl rfl)
theorem dX5_spoonOf_116 : decode cX5_spoonOf 116 = .ok (.istore 7, 2) := dk_54 7 (dk_at dksX5_spoonOf_4 22 rfl rfl)
theorem dX5_spoonOf_118 : decode cX5_spoonOf 118 = .ok (.iload 7, 2) := dk_21 7 (dk_at dksX5_spoonOf_5 0 rfl rfl)
theorem dX5_spoonOf_120 : decode cX5_spoonOf 120 = .ok (.iload 4, 2) := dk_21 4 (dk_at dksX5_spoonOf_5 2 rfl rfl)
theorem dX5_spoonOf_122 : decode cX5_spoonOf 122 = .ok (.iload 5, 2) := dk_21 5 (dk_at dksX5_spoonOf_5 4 rfl rfl)
theorem dX5_spoonOf_124 : decode cX5_spoonOf 124 = .ok (.invokestatic 334, 3) := dk_184 1 78 (dk_at dksX5_spoonOf_5 6 rfl rfl)
theorem dX5_spoonOf_127 : decode cX5_spoonOf 127 = .ok (.invokestatic 334, 3) := dk_184 1 78 (dk_at dksX5_spoonOf_5 9 rfl rfl)
theorem dX5_spoonOf_130 : decode cX5_spoonOf 130 = .ok (.ireturn, 1) := dk_172 (dk_at dksX5_spoonOf_5 12 rfl rfl)
abbrev cX5_stillHolds : ByteArray := prog_23_method_51_code
def yX5_stillHolds : MethodName := ⟨RX5, "stillHolds", "(I)I"⟩
def dkwX5_stillHolds_2 : List UInt8 := [29, 42, 180, 0, 88, 27, 46, 164, 0, 14, 29, 42, 180, 0, 88, 27, 46, 100, 167, 0, 4, 3, 172]
abbrev dktX5_stillHolds_2 : List UInt8 := dkwX5_stillHolds_2 ++ []
def dkwX5_stillHolds_1 : List UInt8 := [6, 27, 104, 96, 4, 96, 46, 104, 167, 0, 15, 42, 28, 182, 1, 67, 3, 17, 39, 15, 184, 1, 71, 62]
abbrev dktX5_stillHolds_1 : List UInt8 := dkwX5_stillHolds_1 ++ dktX5_stillHolds_2
def dkwX5_stillHolds_0 : List UInt8 := [42, 4, 182, 1, 61, 61, 42, 27, 182, 1, 64, 28, 2, 160, 0, 22, 16, 20, 42, 180, 0, 7, 16, 10]
abbrev dktX5_stillHolds_0 : List UInt8 := dkwX5_stillHolds_0 ++ dktX5_stillHolds_1
theorem dksX5_stillHolds_0 : cX5_stillHolds.data.toList.drop 0 = dktX5_stillHolds_0 := by decide +kernel
theorem dksX5_stillHolds_1 : cX5_stillHolds.data.toList.drop 24 = dktX5_stillHolds_1 := dk_seg dksX5_stillHolds_0 24 rfl rfl
theorem dksX5_stillHolds_2 : cX5_stillHolds.data.toList.drop 48 = dktX5_stillHolds_2 := dk_seg dksX5_stillHolds_1 24 rfl rfl
theorem dX5_stillHolds_0 : decode cX5_stillHolds 0 = .ok (.aload_n 0, 1) := dk_42 (dk_at dksX5_stillHolds_0 0 rfl rfl)
theorem dX5_stillHolds_1 : decode cX5_stillHolds 1 = .ok (.iconst 1, 1) := dk_4 (dk_at dksX5_stillHolds_0 1 rfl rfl)
theorem dX5_stillHolds_2 : decode cX5_stillHolds 2 = .ok (.invokevirtual 317, 3) := dk_182 1 61 (dk_at dksX5_stillHolds_0 2 rfl rfl)
theorem dX5_stillHolds_5 : decode cX5_stillHolds 5 = .ok (.istore_n 2, 1) := dk_61 (dk_at dksX5_stillHolds_0 5 rfl rfl)
theorem dX5_stillHolds_6 : decode cX5_stillHolds 6 = .ok (.aload_n 0, 1) := dk_42 (dk_at dksX5_stillHolds_0 6 rfl rfl)
theorem dX5_stillHolds_7 : decode cX5_stillHolds 7 = .ok (.iload_n 1, 1) := dk_27 (dk_at dksX5_stillHolds_0 7 rfl rfl)
theorem dX5_stillHolds_8 : decode cX5_stillHolds 8 = .ok (.invokevirtual 320, 3) := dk_182 1 64 (dk_at dksX5_stillHolds_0 8 rfl rfl)
theorem dX5_stillHolds_11 : decode cX5_stillHolds 11 = .ok (.iload_n 2, 1) := dk_28 (dk_at dksX5_stillHolds_0 11 rfl rfl)
theorem dX5_stillHolds_12 : decode cX5_stillHolds 12 = .ok (.iconst (-1), 1) := dk_2 (dk_at dksX5_stillHolds_0 12 rfl rfl)
theorem dX5_stillHolds_13 : decode cX5_stillHolds 13 = .ok (.if_icmp .ne 22, 3) := dk_160 0 22 (dk_at dksX5_stillHolds_0 13 rfl rfl)
theorem dX5_stillHolds_16 : decode cX5_stillHolds 16 = .ok (.bipush 20, 2) := dk_16 20 (dk_at dksX5_stillHolds_0 16 rfl rfl)
theorem dX5_stillHolds_18 : decode cX5_stillHolds 18 = .ok (.aload_n 0, 1) := dk_42 (dk_at dksX5_stillHolds_0 18 rfl rfl)
theorem dX5_stillHolds_19 : decode cX5_stillHolds 19 = .ok (.getfield 7, 3) := dk_180 0 7 (dk_at dksX5_stillHolds_0 19 rfl rfl)
theorem dX5_stillHolds_22 : decode cX5_stillHolds 22 = .ok (.bipush 10, 2) := dk_16 10 (dk_at dksX5_stillHolds_0 22 rfl rfl)
theorem dX5_stillHolds_24 : decode cX5_stillHolds 24 = .ok (.iconst 3, 1) := dk_6 (dk_at dksX5_stillHolds_1 0 rfl rfl)
theorem dX5_stillHolds_25 : decode cX5_stillHolds 25 = .ok (.iload_n 1, 1) := dk_27 (dk_at dksX5_stillHolds_1 1 rfl rfl)
theorem dX5_stillHolds_26 : decode cX5_stillHolds 26 = .ok (.imul, 1) := dk_104 (dk_at dksX5_stillHolds_1 2 rfl rfl)
theorem dX5_stillHolds_27 : decode cX5_stillHolds 27 = .ok (.iadd, 1) := dk_96 (dk_at dksX5_stillHolds_1 3 rfl rfl)
theorem dX5_stillHolds_28 : decode cX5_stillHolds 28 = .ok (.iconst 1, 1) := dk_4 (dk_at dksX5_stillHolds_1 4 rfl rfl)
theorem dX5_stillHolds_29 : decode cX5_stillHolds 29 = .ok (.iadd, 1) := dk_96 (dk_at dksX5_stillHolds_1 5 rfl rfl)
theorem dX5_stillHolds_30 : decode cX5_stillHolds 30 = .ok (.iaload, 1) := dk_46 (dk_at dksX5_stillHolds_1 6 rfl rfl)
theorem dX5_stillHolds_31 : decode cX5_stillHolds 31 = .ok (.imul, 1) := dk_104 (dk_at dksX5_stillHolds_1 7 rfl rfl)
theorem dX5_stillHolds_32 : decode cX5_stillHolds 32 = .ok (.goto 15, 3) := dk_167 0 15 (dk_at dksX5_stillHolds_1 8 rfl rfl)
theorem dX5_stillHolds_35 : decode cX5_stillHolds 35 = .ok (.aload_n 0, 1) := dk_42 (dk_at dksX5_stillHolds_1 11 rfl rfl)
theorem dX5_stillHolds_36 : decode cX5_stillHolds 36 = .ok (.iload_n 2, 1) := dk_28 (dk_at dksX5_stillHolds_1 12 rfl rfl)
theorem dX5_stillHolds_37 : decode cX5_stillHolds 37 = .ok (.invokevirtual 323, 3) := dk_182 1 67 (dk_at dksX5_stillHolds_1 13 rfl rfl)
theorem dX5_stillHolds_40 : decode cX5_stillHolds 40 = .ok (.iconst 0, 1) := dk_3 (dk_at dksX5_stillHolds_1 16 rfl rfl)
theorem dX5_stillHolds_41 : decode cX5_stillHolds 41 = .ok (.sipush 9999, 3) := dk_17 39 15 (dk_at dksX5_stillHolds_1 17 rfl rfl)
theorem dX5_stillHolds_44 : decode cX5_stillHolds 44 = .ok (.invokestatic 327, 3) := dk_184 1 71 (dk_at dksX5_stillHolds_1 20 rfl rfl)
theorem dX5_stillHolds_47 : decode cX5_stillHolds 47 = .ok (.istore_n 3, 1) := dk_62 (dk_at dksX5_stillHolds_1 23 rfl rfl)
theorem dX5_stillHolds_48 : decode cX5_stillHolds 48 = .ok (.iload_n 3, 1) := dk_29 (dk_at dksX5_stillHolds_2 0 rfl rfl)
theorem dX5_stillHolds_49 : decode cX5_stillHolds 49 = .ok (.aload_n 0, 1) := dk_42 (dk_at dksX5_stillHolds_2 1 rfl rfl)
theorem dX5_stillHolds_50 : decode cX5_stillHolds 50 = .ok (.getfield 88, 3) := dk_180 0 88 (dk_at dksX5_stillHolds_2 2 rfl rfl)
theorem dX5_stillHolds_53 : decode cX5_stillHolds 53 = .ok (.iload_n 1, 1) := dk_27 (dk_at dksX5_stillHolds_2 5 rfl rfl)
theorem dX5_stillHolds_54 : decode cX5_stillHolds 54 = .ok (.iaload, 1) := dk_46 (dk_at dksX5_stillHolds_2 6 rfl rfl)
theorem dX5_stillHolds_55 : decode cX5_stillHolds 55 = .ok (.if_icmp .le 14, 3) := dk_164 0 14 (dk_at dksX5_stillHolds_2 7 rfl rfl)
theorem dX5_stillHolds_58 : decode cX5_stillHolds 58 = .ok (.iload_n 3, 1) := dk_29 (dk_at dksX5_stillHolds_2 10 rfl rfl)
theorem dX5_stillHolds_59 : decode cX5_stillHolds 59 = .ok (.aload_n 0, 1) := dk_42 (dk_at dksX5_stillHolds_2 11 rfl rfl)
theorem dX5_stillHolds_60 : decode cX5_stillHolds 60 = .ok (.getfield 88, 3) := dk_180 0 88 (dk_at dksX5_stillHolds_2 12 rfl rfl)
theorem dX5_stillHolds_63 : decode cX5_stillHolds 63 = .ok (.iload_n 1, 1) := dk_27 (dk_at dksX5_stillHolds_2 15 rfl rfl)
theorem dX5_stillHolds_64 : decode cX5_stillHolds 64 = .ok (.iaload, 1) := dk_46 (dk_at dksX5_stillHolds_2 16 rfl rfl)
theorem dX5_stillHolds_65 : decode cX5_stillHolds 65 = .ok (.isub, 1) := dk_100 (dk_at dksX5_stillHolds_2 17 rfl rfl)
theorem dX5_stillHolds_66 : decode cX5_stillHolds 66 = .ok (.goto 4, 3) := dk_167 0 4 (dk_at dksX5_stillHolds_2 18 rfl rfl)
theorem dX5_stillHolds_69 : decode cX5_stillHolds 69 = .ok (.iconst 0, 1) := dk_3 (dk_at dksX5_stillHolds_2 21 rfl rfl)
theorem dX5_stillHolds_70 : decode cX5_stillHolds 70 = .ok (.ireturn, 1) := dk_172 (dk_at dksX5_stillHolds_2 22 rfl rfl)
abbrev cX5_ordersOf : ByteArray := prog_23_method_46_code
def yX5_ordersOf : MethodName := ⟨RX5, "ordersOf", "(I)I"⟩
def dkwX5_ordersOf_3 : List UInt8 := [172]
abbrev dktX5_ordersOf_3 : List UInt8 := dkwX5_ordersOf_3 ++ []
def dkwX5_ordersOf_2 : List UInt8 := [46, 27, 160, 0, 13, 42, 180, 0, 33, 21, 4, 46, 167, 0, 4, 28, 61, 132, 3, 1, 167, 255, 192, 28]
abbrev dktX5_ordersOf_2 : List UInt8 := dkwX5_ordersOf_2 ++ dktX5_ordersOf_3
def dkwX5_ordersOf_1 : List UInt8 := [46, 46, 162, 0, 45, 16, 24, 42, 180, 0, 7, 5, 46, 104, 29, 96, 54, 4, 42, 180, 0, 30, 21, 4]
abbrev dktX5_ordersOf_1 : List UInt8 := dkwX5_ordersOf_1 ++ dktX5_ordersOf_2
def dkwX5_ordersOf_0 : List UInt8 := [2, 61, 3, 62, 42, 180, 0, 7, 5, 46, 2, 159, 0, 60, 29, 42, 180, 0, 27, 42, 180, 0, 7, 5]
abbrev dktX5_ordersOf_0 : List UInt8 := dkwX5_ordersOf_0 ++ dktX5_ordersOf_1
theorem dksX5_ordersOf_0 : cX5_ordersOf.data.toList.drop 0 = dktX5_ordersOf_0 := by decide +kernel
theorem dksX5_ordersOf_1 : cX5_ordersOf.data.toList.drop 24 = dktX5_ordersOf_1 := dk_seg dksX5_ordersOf_0 24 rfl rfl
theorem dksX5_ordersOf_2 : cX5_ordersOf.data.toList.drop 48 = dktX5_ordersOf_2 := dk_seg dksX5_ordersOf_1 24 rfl rfl
theorem dksX5_ordersOf_3 : cX5_ordersOf.data.toList.drop 72 = dktX5_ordersOf_3 := dk_seg dksX5_ordersOf_2 24 rfl rfl
theorem dX5_ordersOf_0 : decode cX5_ordersOf 0 = .ok (.iconst (-1), 1) := dk_2 (dk_at dksX5_ordersOf_0 0 rfl rfl)
theorem dX5_ordersOf_1 : decode cX5_ordersOf 1 = .ok (.istore_n 2, 1) := dk_61 (dk_at dksX5_ordersOf_0 1 rfl rfl)
theorem dX5_ordersOf_2 : decode cX5_ordersOf 2 = .ok (.iconst 0, 1) := dk_3 (dk_at dksX5_ordersOf_0 2 rfl rfl)
theorem dX5_ordersOf_3 : decode cX5_ordersOf 3 = .ok (.istore_n 3, 1) := dk_62 (dk_at dksX5_ordersOf_0 3 rfl rfl)
theorem dX5_ordersOf_4 : decode cX5_ordersOf 4 = .ok (.aload_n 0, 1) := dk_42 (dk_at dksX5_ordersOf_0 4 rfl rfl)
theorem dX5_ordersOf_5 : decode cX5_ordersOf 5 = .ok (.getfield 7, 3) := dk_180 0 7 (dk_at dksX5_ordersOf_0 5 rfl rfl)
theorem dX5_ordersOf_8 : decode cX5_ordersOf 8 = .ok (.iconst 2, 1) := dk_5 (dk_at dksX5_ordersOf_0 8 rfl rfl)
theorem dX5_ordersOf_9 : decode cX5_ordersOf 9 = .ok (.iaload, 1) := dk_46 (dk_at dksX5_ordersOf_0 9 rfl rfl)
theorem dX5_ordersOf_10 : decode cX5_ordersOf 10 = .ok (.iconst (-1), 1) := dk_2 (dk_at dksX5_ordersOf_0 10 rfl rfl)
theorem dX5_ordersOf_11 : decode cX5_ordersOf 11 = .ok (.if_icmp .eq 60, 3) := dk_159 0 60 (dk_at dksX5_ordersOf_0 11 rfl rfl)
theorem dX5_ordersOf_14 : decode cX5_ordersOf 14 = .ok (.iload_n 3, 1) := dk_29 (dk_at dksX5_ordersOf_0 14 rfl rfl)
theorem dX5_ordersOf_15 : decode cX5_ordersOf 15 = .ok (.aload_n 0, 1) := dk_42 (dk_at dksX5_ordersOf_0 15 rfl rfl)
theorem dX5_ordersOf_16 : decode cX5_ordersOf 16 = .ok (.getfield 27, 3) := dk_180 0 27 (dk_at dksX5_ordersOf_0 16 rfl rfl)
theorem dX5_ordersOf_19 : decode cX5_ordersOf 19 = .ok (.aload_n 0, 1) := dk_42 (dk_at dksX5_ordersOf_0 19 rfl rfl)
theorem dX5_ordersOf_20 : decode cX5_ordersOf 20 = .ok (.getfield 7, 3) := dk_180 0 7 (dk_at dksX5_ordersOf_0 20 rfl rfl)
theorem dX5_ordersOf_23 : decode cX5_ordersOf 23 = .ok (.iconst 2, 1) := dk_5 (dk_at dksX5_ordersOf_0 23 rfl rfl)
theorem dX5_ordersOf_24 : decode cX5_ordersOf 24 = .ok (.iaload, 1) := dk_46 (dk_at dksX5_ordersOf_1 0 rfl rfl)
theorem dX5_ordersOf_25 : decode cX5_ordersOf 25 = .ok (.iaload, 1) := dk_46 (dk_at dksX5_ordersOf_1 1 rfl rfl)
theorem dX5_ordersOf_26 : decode cX5_ordersOf 26 = .ok (.if_icmp .ge 45, 3) := dk_162 0 45 (dk_at dksX5_ordersOf_1 2 rfl rfl)
theorem dX5_ordersOf_29 : decode cX5_ordersOf 29 = .ok (.bipush 24, 2) := dk_16 24 (dk_at dksX5_ordersOf_1 5 rfl rfl)
theorem dX5_ordersOf_31 : decode cX5_ordersOf 31 = .ok (.aload_n 0, 1) := dk_42 (dk_at dksX5_ordersOf_1 7 rfl rfl)
theorem dX5_ordersOf_32 : decode cX5_ordersOf 32 = .ok (.getfield 7, 3) := dk_180 0 7 (dk_at dksX5_ordersOf_1 8 rfl rfl)
theorem dX5_ordersOf_35 : decode cX5_ordersOf 35 = .ok (.iconst 2, 1) := dk_5 (dk_at dksX5_ordersOf_1 11 rfl rfl)
theorem dX5_ordersOf_36 : decode cX5_ordersOf 36 = .ok (.iaload, 1) := dk_46 (dk_at dksX5_ordersOf_1 12 rfl rfl)
theorem dX5_ordersOf_37 : decode cX5_ordersOf 37 = .ok (.imul, 1) := dk_104 (dk_at dksX5_ordersOf_1 13 rfl rfl)
theorem dX5_ordersOf_38 : decode cX5_ordersOf 38 = .ok (.iload_n 3, 1) := dk_29 (dk_at dksX5_ordersOf_1 14 rfl rfl)
theorem dX5_ordersOf_39 : decode cX5_ordersOf 39 = .ok (.iadd, 1) := dk_96 (dk_at dksX5_ordersOf_1 15 rfl rfl)
theorem dX5_ordersOf_40 : decode cX5_ordersOf 40 = .ok (.istore 4, 2) := dk_54 4 (dk_at dksX5_ordersOf_1 16 rfl rfl)
theorem dX5_ordersOf_42 : decode cX5_ordersOf 42 = .ok (.aload_n 0, 1) := dk_42 (dk_at dksX5_ordersOf_1 18 rfl rfl)
theorem dX5_ordersOf_43 : decode cX5_ordersOf 43 = .ok (.getfield 30, 3) := dk_180 0 30 (dk_at dksX5_ordersOf_1 19 rfl rfl)
theorem dX5_ordersOf_46 : decode cX5_ordersOf 46 = .ok (.iload 4, 2) := dk_21 4 (dk_at dksX5_ordersOf_1 22 rfl rfl)
theorem dX5_ordersOf_48 : decode cX5_ordersOf 48 = .ok (.iaload, 1) := dk_46 (dk_at dksX5_ordersOf_2 0 rfl rfl)
theorem dX5_ordersOf_49 : decode cX5_ordersOf 49 = .ok (.iload_n 1, 1) := dk_27 (dk_at dksX5_ordersOf_2 1 rfl rfl)
theorem dX5_ordersOf_50 : decode cX5_ordersOf 50 = .ok (.if_icmp .ne 13, 3) := dk_160 0 13 (dk_at dksX5_ordersOf_2 2 rfl rfl)
theorem dX5_ordersOf_53 : decode cX5_ordersOf 53 = .ok (.aload_n 0, 1) := dk_42 (dk_at dksX5_ordersOf_2 5 rfl rfl)
theorem dX5_ordersOf_54 : decode cX5_ordersOf 54 = .ok (.getfield 33, 3) := dk_180 0 33 (dk_at dksX5_ordersOf_2 6 rfl rfl)
theorem dX5_ordersOf_57 : decode cX5_ordersOf 57 = .ok (.iload 4, 2) := dk_21 4 (dk_at dksX5_ordersOf_2 9 rfl rfl)
theorem dX5_ordersOf_59 : decode cX5_ordersOf 59 = .ok (.iaload, 1) := dk_46 (dk_at dksX5_ordersOf_2 11 rfl rfl)
theorem dX5_ordersOf_60 : decode cX5_ordersOf 60 = .ok (.goto 4, 3) := dk_167 0 4 (dk_at dksX5_ordersOf_2 12 rfl rfl)
theorem dX5_ordersOf_63 : decode cX5_ordersOf 63 = .ok (.iload_n 2, 1) := dk_28 (dk_at dksX5_ordersOf_2 15 rfl rfl)
theorem dX5_ordersOf_64 : decode cX5_ordersOf 64 = .ok (.istore_n 2, 1) := dk_61 (dk_at dksX5_ordersOf_2 16 rfl rfl)
theorem dX5_ordersOf_65 : decode cX5_ordersOf 65 = .ok (.iinc 3 1, 3) := dk_132 3 1 (dk_at dksX5_ordersOf_2 17 rfl rfl)
theorem dX5_ordersOf_68 : decode cX5_ordersOf 68 = .ok (.goto (-64), 3) := dk_167 255 192 (dk_at dksX5_ordersOf_2 20 rfl rfl)
theorem dX5_ordersOf_71 : decode cX5_ordersOf 71 = .ok (.iload_n 2, 1) := dk_28 (dk_at dksX5_ordersOf_2 23 rfl rfl)
theorem dX5_ordersOf_72 : decode cX5_ordersOf 72 = .ok (.ireturn, 1) := dk_172 (dk_at dksX5_ordersOf_3 0 rfl rfl)
abbrev cX5_names : ByteArray := prog_23_method_50_code
def yX5_names : MethodName := ⟨RX5, "names", "(I)V"⟩
def dkwX5_names_2 : List UInt8 := [42, 180, 0, 88, 27, 46, 79, 177]
abbrev dktX5_names_2 : List UInt8 := dkwX5_names_2 ++ []
def dkwX5_names_1 : List UInt8 := [42, 180, 0, 78, 5, 42, 180, 0, 7, 16, 10, 6, 27, 104, 96, 4, 96, 46, 79, 42, 180, 0, 78, 6]
abbrev dktX5_names_1 : List UInt8 := dkwX5_names_1 ++ dktX5_names_2
def dkwX5_names_0 : List UInt8 := [42, 180, 0, 78, 3, 27, 79, 42, 180, 0, 78, 4, 42, 180, 0, 7, 16, 10, 6, 27, 104, 96, 46, 79]
abbrev dktX5_names_0 : List UInt8 := dkwX5_names_0 ++ dktX5_names_1
theorem dksX5_names_0 : cX5_names.data.toList.drop 0 = dktX5_names_0 := by decide +kernel
theorem dksX5_names_1 : cX5_names.data.toList.drop 24 = dktX5_names_1 := dk_seg dksX5_names_0 24 rfl rfl
theorem dksX5_names_2 : cX5_names.data.toList.drop 48 = dktX5_names_2 := dk_seg dksX5_names_1 24 rfl rfl
theorem dX5_names_0 : decode cX5_names 0 = .ok (.aload_n 0, 1) := dk_42 (dk_at dksX5_names_0 0 rfl rfl)
theorem dX5_names_1 : decode cX5_names 1 = .ok (.getfield 78, 3) := dk_180 0 78 (dk_at dksX5_names_0 1 rfl rfl)
theorem dX5_names_4 : decode cX5_names 4 = .ok (.iconst 0, 1) := dk_3 (dk_at dksX5_names_0 4 rfl rfl)
theorem dX5_names_5 : decode cX5_names 5 = .ok (.iload_n 1, 1) := dk_27 (dk_at dksX5_names_0 5 rfl rfl)
theorem dX5_names_6 : decode cX5_names 6 = .ok (.iastore, 1) := dk_79 (dk_at dksX5_names_0 6 rfl rfl)
theorem dX5_names_7 : decode cX5_names 7 = .ok (.aload_n 0, 1) := dk_42 (dk_at dksX5_names_0 7 rfl rfl)
theorem dX5_names_8 : decode cX5_names 8 = .ok (.getfield 78, 3) := dk_180 0 78 (dk_at dksX5_names_0 8 rfl rfl)
theorem dX5_names_11 : decode cX5_names 11 = .ok (.iconst 1, 1) := dk_4 (dk_at dksX5_names_0 11 rfl rfl)
theorem dX5_names_12 : decode cX5_names 12 = .ok (.aload_n 0, 1) := dk_42 (dk_at dksX5_names_0 12 rfl rfl)
theorem dX5_names_13 : decode cX5_names 13 = .ok (.getfield 7, 3) := dk_180 0 7 (dk_at dksX5_names_0 13 rfl rfl)
theorem dX5_names_16 : decode cX5_names 16 = .ok (.bipush 10, 2) := dk_16 10 (dk_at dksX5_names_0 16 rfl rfl)
theorem dX5_names_18 : decode cX5_names 18 = .ok (.iconst 3, 1) := dk_6 (dk_at dksX5_names_0 18 rfl rfl)
theorem dX5_names_19 : decode cX5_names 19 = .ok (.iload_n 1, 1) := dk_27 (dk_at dksX5_names_0 19 rfl rfl)
theorem dX5_names_20 : decode cX5_names 20 = .ok (.imul, 1) := dk_104 (dk_at dksX5_names_0 20 rfl rfl)
theorem dX5_names_21 : decode cX5_names 21 = .ok (.iadd, 1) := dk_96 (dk_at dksX5_names_0 21 rfl rfl)
theorem dX5_names_22 : decode cX5_names 22 = .ok (.iaload, 1) := dk_46 (dk_at dksX5_names_0 22 rfl rfl)
theorem dX5_names_23 : decode cX5_names 23 = .ok (.iastore, 1) := dk_79 (dk_at dksX5_names_0 23 rfl rfl)
theorem dX5_names_24 : decode cX5_names 24 = .ok (.aload_n 0, 1) := dk_42 (dk_at dksX5_names_1 0 rfl rfl)
theorem dX5_names_25 : decode cX5_names 25 = .ok (.getfield 78, 3) := dk_180 0 78 (dk_at dksX5_names_1 1 rfl rfl)
theorem dX5_names_28 : decode cX5_names 28 = .ok (.iconst 2, 1) := dk_5 (dk_at dksX5_names_1 4 rfl rfl)
theorem dX5_names_29 : decode cX5_names 29 = .ok (.aload_n 0, 1) := dk_42 (dk_at dksX5_names_1 5 rfl rfl)
theorem dX5_names_30 : decode cX5_names 30 = .ok (.getfield 7, 3) := dk_180 0 7 (dk_at dksX5_names_1 6 rfl rfl)
theorem dX5_names_33 : decode cX5_names 33 = .ok (.bipush 10, 2) := dk_16 10 (dk_at dksX5_names_1 9 rfl rfl)
theorem dX5_names_35 : decode cX5_names 35 = .ok (.iconst 3, 1) := dk_6 (dk_at dksX5_names_1 11 rfl rfl)
theorem dX5_names_36 : decode cX5_names 36 = .ok (.iload_n 1, 1) := dk_27 (dk_at dksX5_names_1 12 rfl rfl)
theorem dX5_names_37 : decode cX5_names 37 = .ok (.imul, 1) := dk_104 (dk_at dksX5_names_1 13 rfl rfl)
theorem dX5_names_38 : decode cX5_names 38 = .ok (.iadd, 1) := dk_96 (dk_at dksX5_names_1 14 rfl rfl)
theorem dX5_names_39 : decode cX5_names 39 = .ok (.iconst 1, 1) := dk_4 (dk_at dksX5_names_1 15 rfl rfl)
theorem dX5_names_40 : decode cX5_names 40 = .ok (.iadd, 1) := dk_96 (dk_at dksX5_names_1 16 rfl rfl)
theorem dX5_names_41 : decode cX5_names 41 = .ok (.iaload, 1) := dk_46 (dk_at dksX5_names_1 17 rfl rfl)
theorem dX5_names_42 : decode cX5_names 42 = .ok (.iastore, 1) := dk_79 (dk_at dksX5_names_1 18 rfl rfl)
theorem dX5_names_43 : decode cX5_names 43 = .ok (.aload_n 0, 1) := dk_42 (dk_at dksX5_names_1 19 rfl rfl)
theorem dX5_names_44 : decode cX5_names 44 = .ok (.getfield 78, 3) := dk_180 0 78 (dk_at dksX5_names_1 20 rfl rfl)
theorem dX5_names_47 : decode cX5_names 47 = .ok (.iconst 3, 1) := dk_6 (dk_at dksX5_names_1 23 rfl rfl)
theorem dX5_names_48 : decode cX5_names 48 = .ok (.aload_n 0, 1) := dk_42 (dk_at dksX5_names_2 0 rfl rfl)
theorem dX5_names_49 : decode cX5_names 49 = .ok (.getfield 88, 3) := dk_180 0 88 (dk_at dksX5_names_2 1 rfl rfl)
theorem dX5_names_52 : decode cX5_names 52 = .ok (.iload_n 1, 1) := dk_27 (dk_at dksX5_names_2 4 rfl rfl)
theorem dX5_names_53 : decode cX5_names 53 = .ok (.iaload, 1) := dk_46 (dk_at dksX5_names_2 5 rfl rfl)
theorem dX5_names_54 : decode cX5_names 54 = .ok (.iastore, 1) := dk_79 (dk_at dksX5_names_2 6 rfl rfl)
theorem dX5_names_55 : decode cX5_names 55 = .ok (.return_, 1) := dk_177 (dk_at dksX5_names_2 7 rfl rfl)
abbrev cX5_saysOf : ByteArray := prog_23_method_44_code
def yX5_saysOf : MethodName := ⟨RX5, "saysOf", "(I)J"⟩
def dkwX5_saysOf_7 : List UInt8 := [184, 1, 54, 80, 132, 3, 1, 167, 255, 88, 42, 180, 0, 81, 3, 47, 173]
abbrev dktX5_saysOf_7 : List UInt8 := dkwX5_saysOf_7 ++ []
def dkwX5_saysOf_6 : List UInt8 := [180, 0, 81, 28, 4, 100, 21, 4, 42, 180, 0, 81, 28, 4, 100, 47, 42, 180, 0, 81, 28, 47]
abbrev dktX5_saysOf_6 : List UInt8 := dkwX5_saysOf_6 ++ dktX5_saysOf_7
def dkwX5_saysOf_5 : List UInt8 := [180, 0, 81, 28, 4, 100, 10, 42, 180, 0, 81, 28, 4, 100, 47, 101, 80, 167, 0, 33, 132, 2, 255, 42]
abbrev dktX5_saysOf_5 : List UInt8 := dkwX5_saysOf_5 ++ dktX5_saysOf_6
def dkwX5_saysOf_4 : List UInt8 := [4, 100, 42, 180, 0, 81, 28, 4, 100, 47, 117, 80, 167, 0, 62, 21, 4, 17, 1, 149, 160, 0, 24, 42]
abbrev dktX5_saysOf_4 : List UInt8 := dkwX5_saysOf_4 ++ dktX5_saysOf_5
def dkwX5_saysOf_3 : List UInt8 := [29, 46, 46, 133, 80, 132, 2, 1, 167, 0, 90, 21, 4, 17, 1, 146, 160, 0, 23, 42, 180, 0, 81, 28]
abbrev dktX5_saysOf_3 : List UInt8 := dkwX5_saysOf_3 ++ dktX5_saysOf_4
def dkwX5_saysOf_2 : List UInt8 := [17, 1, 144, 160, 0, 13, 42, 180, 0, 45, 29, 46, 133, 167, 0, 15, 42, 180, 0, 78, 42, 180, 0, 45]
abbrev dktX5_saysOf_2 : List UInt8 := dkwX5_saysOf_2 ++ dktX5_saysOf_3
def dkwX5_saysOf_1 : List UInt8 := [21, 4, 17, 1, 144, 159, 0, 11, 21, 4, 17, 1, 145, 160, 0, 45, 42, 180, 0, 81, 28, 21, 4]
abbrev dktX5_saysOf_1 : List UInt8 := dkwX5_saysOf_1 ++ dktX5_saysOf_2
def dkwX5_saysOf_0 : List UInt8 := [3, 61, 27, 62, 42, 180, 0, 42, 29, 46, 17, 1, 152, 159, 0, 162, 42, 180, 0, 42, 29, 46, 54, 4]
abbrev dktX5_saysOf_0 : List UInt8 := dkwX5_saysOf_0 ++ dktX5_saysOf_1
theorem dksX5_saysOf_0 : cX5_saysOf.data.toList.drop 0 = dktX5_saysOf_0 := by decide +kernel
theorem dksX5_saysOf_1 : cX5_saysOf.data.toList.drop 24 = dktX5_saysOf_1 := dk_seg dksX5_saysOf_0 24 rfl rfl
theorem dksX5_saysOf_2 : cX5_saysOf.data.toList.drop 47 = dktX5_saysOf_2 := dk_seg dksX5_saysOf_1 23 rfl rfl
theorem dksX5_saysOf_3 : cX5_saysOf.data.toList.drop 71 = dktX5_saysOf_3 := dk_seg dksX5_saysOf_2 24 rfl rfl
theorem dksX5_saysOf_4 : cX5_saysOf.data.toList.drop 95 = dktX5_saysOf_4 := dk_seg dksX5_saysOf_3 24 rfl rfl
theorem dksX5_saysOf_5 : cX5_saysOf.data.toList.drop 119 = dktX5_saysOf_5 := dk_seg dksX5_saysOf_4 24 rfl rfl
theorem dksX5_saysOf_6 : cX5_saysOf.data.toList.drop 143 = dktX5_saysOf_6 := dk_seg dksX5_saysOf_5 24 rfl rfl
theorem dksX5_saysOf_7 : cX5_saysOf.data.toList.drop 165 = dktX5_saysOf_7 := dk_seg dksX5_saysOf_6 22 rfl rfl
theorem dX5_saysOf_0 : decode cX5_saysOf 0 = .ok (.iconst 0, 1) := dk_3 (dk_at dksX5_saysOf_0 0 rfl rfl)
theorem dX5_saysOf_1 : decode cX5_saysOf 1 = .ok (.istore_n 2, 1) := dk_61 (dk_at dksX5_saysOf_0 1 rfl rfl)
theorem dX5_saysOf_2 : decode cX5_saysOf 2 = .ok (.iload_n 1, 1) := dk_27 (dk_at dksX5_saysOf_0 2 rfl rfl)
theorem dX5_saysOf_3 : decode cX5_saysOf 3 = .ok (.istore_n 3, 1) := dk_62 (dk_at dksX5_saysOf_0 3 rfl rfl)
theorem dX5_saysOf_4 : decode cX5_saysOf 4 = .ok (.aload_n 0, 1) := dk_42 (dk_at dksX5_saysOf_0 4 rfl rfl)
theorem dX5_saysOf_5 : decode cX5_saysOf 5 = .ok (.getfield 42, 3) := dk_180 0 42 (dk_at dksX5_saysOf_0 5 rfl rfl)
theorem dX5_saysOf_8 : decode cX5_saysOf 8 = .ok (.iload_n 3, 1) := dk_29 (dk_at dksX5_saysOf_0 8 rfl rfl)
theorem dX5_saysOf_9 : decode cX5_saysOf 9 = .ok (.iaload, 1) := dk_46 (dk_at dksX5_saysOf_0 9 rfl rfl)
theorem dX5_saysOf_10 : decode cX5_saysOf 10 = .ok (.sipush 408, 3) := dk_17 1 152 (dk_at dksX5_saysOf_0 10 rfl rfl)
theorem dX5_saysOf_13 : decode cX5_saysOf 13 = .ok (.if_icmp .eq 162, 3) := dk_159 0 162 (dk_at dksX5_saysOf_0 13 rfl rfl)
theorem dX5_saysOf_16 : decode cX5_saysOf 16 = .ok (.aload_n 0, 1) := dk_42 (dk_at dksX5_saysOf_0 16 rfl rfl)
theorem dX5_saysOf_17 : decode cX5_saysOf 17 = .ok (.getfield 42, 3) := dk_180 0 42 (dk_at dksX5_saysOf_0 17 rfl rfl)
theorem dX5_saysOf_20 : decode cX5_saysOf 20 = .ok (.iload_n 3, 1) := dk_29 (dk_at dksX5_saysOf_0 20 rfl rfl)
theorem dX5_saysOf_21 : decode cX5_saysOf 21 = .ok (.iaload, 1) := dk_46 (dk_at dksX5_saysOf_0 21 rfl rfl)
theorem dX5_saysOf_22 : decode cX5_saysOf 22 = .ok (.istore 4, 2) := dk_54 4 (dk_at dksX5_saysOf_0 22 rfl rfl)
theorem dX5_saysOf_24 : decode cX5_saysOf 24 = .ok (.iload 4, 2) := dk_21 4 (dk_at dksX5_saysOf_1 0 rfl rfl)
theorem dX5_saysOf_26 : decode cX5_saysOf 26 = .ok (.sipush 400, 3) := dk_17 1 144 (dk_at dksX5_saysOf_1 2 rfl rfl)
theorem dX5_saysOf_29 : decode cX5_saysOf 29 = .ok (.if_icmp .eq 11, 3) := dk_159 0 11 (dk_at dksX5_saysOf_1 5 rfl rfl)
theorem dX5_saysOf_32 : decode cX5_saysOf 32 = .ok (.iload 4, 2) := dk_21 4 (dk_at dksX5_saysOf_1 8 rfl rfl)
theorem dX5_saysOf_34 : decode cX5_saysOf 34 = .ok (.sipush 401, 3) := dk_17 1 145 (dk_at dksX5_saysOf_1 10 rfl rfl)
theorem dX5_saysOf_37 : decode cX5_saysOf 37 = .ok (.if_icmp .ne 45, 3) := dk_160 0 45 (dk_at dksX5_saysOf_1 13 rfl rfl)
theorem dX5_saysOf_40 : decode cX5_saysOf 40 = .ok (.aload_n 0, 1) := dk_42 (dk_at dksX5_saysOf_1 16 rfl rfl)
theorem dX5_saysOf_41 : decode cX5_saysOf 41 = .ok (.getfield 81, 3) := dk_180 0 81 (dk_at dksX5_saysOf_1 17 rfl rfl)
theorem dX5_saysOf_44 : decode cX5_saysOf 44 = .ok (.iload_n 2, 1) := dk_28 (dk_at dksX5_saysOf_1 20 rfl rfl)
theorem dX5_saysOf_45 : decode cX5_saysOf 45 = .ok (.iload 4, 2) := dk_21 4 (dk_at dksX5_saysOf_1 21 rfl rfl)
theorem dX5_saysOf_47 : decode cX5_saysOf 47 = .ok (.sipush 400, 3) := dk_17 1 144 (dk_at dksX5_saysOf_2 0 rfl rfl)
theorem dX5_saysOf_50 : decode cX5_saysOf 50 = .ok (.if_icmp .ne 13, 3) := dk_160 0 13 (dk_at dksX5_saysOf_2 3 rfl rfl)
theorem dX5_saysOf_53 : decode cX5_saysOf 53 = .ok (.aload_n 0, 1) := dk_42 (dk_at dksX5_saysOf_2 6 rfl rfl)
theorem dX5_saysOf_54 : decode cX5_saysOf 54 = .ok (.getfield 45, 3) := dk_180 0 45 (dk_at dksX5_saysOf_2 7 rfl rfl)
theorem dX5_saysOf_57 : decode cX5_saysOf 57 = .ok (.iload_n 3, 1) := dk_29 (dk_at dksX5_saysOf_2 10 rfl rfl)
theorem dX5_saysOf_58 : decode cX5_saysOf 58 = .ok (.iaload, 1) := dk_46 (dk_at dksX5_saysOf_2 11 rfl rfl)
theorem dX5_saysOf_59 : decode cX5_saysOf 59 = .ok (.i2l, 1) := dk_133 (dk_at dksX5_saysOf_2 12 rfl rfl)
theorem dX5_saysOf_60 : decode cX5_saysOf 60 = .ok (.goto 15, 3) := dk_167 0 15 (dk_at dksX5_saysOf_2 13 rfl rfl)
theorem dX5_saysOf_63 : decode cX5_saysOf 63 = .ok (.aload_n 0, 1) := dk_42 (dk_at dksX5_saysOf_2 16 rfl rfl)
theorem dX5_saysOf_64 : decode cX5_saysOf 64 = .ok (.getfield 78, 3) := dk_180 0 78 (dk_at dksX5_saysOf_2 17 rfl rfl)
theorem dX5_saysOf_67 : decode cX5_saysOf 67 = .ok (.aload_n 0, 1) := dk_42 (dk_at dksX5_saysOf_2 20 rfl rfl)
theorem dX5_saysOf_68 : decode cX5_saysOf 68 = .ok (.getfield 45, 3) := dk_180 0 45 (dk_at dksX5_saysOf_2 21 rfl rfl)
theorem dX5_saysOf_71 : decode cX5_saysOf 71 = .ok (.iload_n 3, 1) := dk_29 (dk_at dksX5_saysOf_3 0 rfl rfl)
theorem dX5_saysOf_72 : decode cX5_saysOf 72 = .ok (.iaload, 1) := dk_46 (dk_at dksX5_saysOf_3 1 rfl rfl)
theorem dX5_saysOf_73 : decode cX5_saysOf 73 = .ok (.iaload, 1) := dk_46 (dk_at dksX5_saysOf_3 2 rfl rfl)
theorem dX5_saysOf_74 : decode cX5_saysOf 74 = .ok (.i2l, 1) := dk_133 (dk_at dksX5_saysOf_3 3 rfl rfl)
theorem dX5_saysOf_75 : decode cX5_saysOf 75 = .ok (.lastore, 1) := dk_80 (dk_at dksX5_saysOf_3 4 rfl rfl)
theorem dX5_saysOf_76 : decode cX5_saysOf 76 = .ok (.iinc 2 1, 3) := dk_132 2 1 (dk_at dksX5_saysOf_3 5 rfl rfl)
theorem dX5_saysOf_79 : decode cX5_saysOf 79 = .ok (.goto 90, 3) := dk_167 0 90 (dk_at dksX5_saysOf_3 8 rfl rfl)
theorem dX5_saysOf_82 : decode cX5_saysOf 82 = .ok (.iload 4, 2) := dk_21 4 (dk_at dksX5_saysOf_3 11 rfl rfl)
theorem dX5_saysOf_84 : decode cX5_saysOf 84 = .ok (.sipush 402, 3) := dk_17 1 146 (dk_at dksX5_saysOf_3 13 rfl rfl)
theorem dX5_saysOf_87 : decode cX5_saysOf 87 = .ok (.if_icmp .ne 23, 3) := dk_160 0 23 (dk_at dksX5_saysOf_3 16 rfl rfl)
theorem dX5_saysOf_90 : decode cX5_saysOf 90 = .ok (.aload_n 0, 1) := dk_42 (dk_at dksX5_saysOf_3 19 rfl rfl)
theorem dX5_saysOf_91 : decode cX5_saysOf 91 = .ok (.getfield 81, 3) := dk_180 0 81 (dk_at dksX5_saysOf_3 20 rfl rfl)
theorem dX5_saysOf_94 : decode cX5_saysOf 94 = .ok (.iload_n 2, 1) := dk_28 (dk_at dksX5_saysOf_3 23 rfl rfl)
theorem dX5_saysOf_95 : decode cX5_saysOf 95 = .ok (.iconst 1, 1) := dk_4 (dk_at dksX5_saysOf_4 0 rfl rfl)
theorem dX5_saysOf_96 : decode cX5_saysOf 96 = .ok (.isub, 1) := dk_100 (dk_at dksX5_saysOf_4 1 rfl rfl)
theorem dX5_saysOf_97 : decode cX5_saysOf 97 = .ok (.aload_n 0, 1) := dk_42 (dk_at dksX5_saysOf_4 2 rfl rfl)
theorem dX5_saysOf_98 : decode cX5_saysOf 98 = .ok (.getfield 81, 3) := dk_180 0 81 (dk_at dksX5_saysOf_4 3 rfl rfl)
theorem dX5_saysOf_101 : decode cX5_saysOf 101 = .ok (.iload_n 2, 1) := dk_28 (dk_at dksX5_saysOf_4 6 rfl rfl)
theorem dX5_saysOf_102 : decode cX5_saysOf 102 = .ok (.iconst 1, 1) := dk_4 (dk_at dksX5_saysOf_4 7 rfl rfl)
theorem dX5_saysOf_103 : decode cX5_saysOf 103 = .ok (.isub, 1) := dk_100 (dk_at dksX5_saysOf_4 8 rfl rfl)
theorem dX5_saysOf_104 : decode cX5_saysOf 104 = .ok (.laload, 1) := dk_47 (dk_at dksX5_saysOf_4 9 rfl rfl)
theorem dX5_saysOf_105 : decode cX5_saysOf 105 = .ok (.lneg, 1) := dk_117 (dk_at dksX5_saysOf_4 10 rfl rfl)
theorem dX5_saysOf_106 : decode cX5_saysOf 106 = .ok (.lastore, 1) := dk_80 (dk_at dksX5_saysOf_4 11 rfl rfl)
theorem dX5_saysOf_107 : decode cX5_saysOf 107 = .ok (.goto 62, 3) := dk_167 0 62 (dk_at dksX5_saysOf_4 12 rfl rfl)
theorem dX5_saysOf_110 : decode cX5_saysOf 110 = .ok (.iload 4, 2) := dk_21 4 (dk_at dksX5_saysOf_4 15 rfl rfl)
theorem dX5_saysOf_112 : decode cX5_saysOf 112 = .ok (.sipush 405, 3) := dk_17 1 149 (dk_at dksX5_saysOf_4 17 rfl rfl)
theorem dX5_saysOf_115 : decode cX5_saysOf 115 = .ok (.if_icmp .ne 24, 3) := dk_160 0 24 (dk_at dksX5_saysOf_4 20 rfl rfl)
theorem dX5_saysOf_118 : decode cX5_saysOf 118 = .ok (.aload_n 0, 1) := dk_42 (dk_at dksX5_saysOf_4 23 rfl rfl)
theorem dX5_saysOf_119 : decode cX5_saysOf 119 = .ok (.getfield 81, 3) := dk_180 0 81 (dk_at dksX5_saysOf_5 0 rfl rfl)
theorem dX5_saysOf_122 : decode cX5_saysOf 122 = .ok (.iload_n 2, 1) := dk_28 (dk_at dksX5_saysOf_5 3 rfl rfl)
theorem dX5_saysOf_123 : decode cX5_saysOf 123 = .ok (.iconst 1, 1) := dk_4 (dk_at dksX5_saysOf_5 4 rfl rfl)
theorem dX5_saysOf_124 : decode cX5_saysOf 124 = .ok (.isub, 1) := dk_100 (dk_at dksX5_saysOf_5 5 rfl rfl)
theorem dX5_saysOf_125 : decode cX5_saysOf 125 = .ok (.lconst 1, 1) := dk_10 (dk_at dksX5_saysOf_5 6 rfl rfl)
theorem dX5_saysOf_126 : decode cX5_saysOf 126 = .ok (.aload_n 0, 1) := dk_42 (dk_at dksX5_saysOf_5 7 rfl rfl)
theorem dX5_saysOf_127 : decode cX5_saysOf 127 = .ok (.getfield 81, 3) := dk_180 0 81 (dk_at dksX5_saysOf_5 8 rfl rfl)
theorem dX5_saysOf_130 : decode cX5_saysOf 130 = .ok (.iload_n 2, 1) := dk_28 (dk_at dksX5_saysOf_5 11 rfl rfl)
theorem dX5_saysOf_131 : decode cX5_saysOf 131 = .ok (.iconst 1, 1) := dk_4 (dk_at dksX5_saysOf_5 12 rfl rfl)
theorem dX5_saysOf_132 : decode cX5_saysOf 132 = .ok (.isub, 1) := dk_100 (dk_at dksX5_saysOf_5 13 rfl rfl)
theorem dX5_saysOf_133 : decode cX5_saysOf 133 = .ok (.laload, 1) := dk_47 (dk_at dksX5_saysOf_5 14 rfl rfl)
theorem dX5_saysOf_134 : decode cX5_saysOf 134 = .ok (.lsub, 1) := dk_101 (dk_at dksX5_saysOf_5 15 rfl rfl)
theorem dX5_saysOf_135 : decode cX5_saysOf 135 = .ok (.lastore, 1) := dk_80 (dk_at dksX5_saysOf_5 16 rfl rfl)
theorem dX5_saysOf_136 : decode cX5_saysOf 136 = .ok (.goto 33, 3) := dk_167 0 33 (dk_at dksX5_saysOf_5 17 rfl rfl)
theorem dX5_saysOf_139 : decode cX5_saysOf 139 = .ok (.iinc 2 (-1), 3) := dk_132 2 255 (dk_at dksX5_saysOf_5 20 rfl rfl)
theorem dX5_saysOf_142 : decode cX5_saysOf 142 = .ok (.aload_n 0, 1) := dk_42 (dk_at dksX5_saysOf_5 23 rfl rfl)
theorem dX5_saysOf_143 : decode cX5_saysOf 143 = .ok (.getfield 81, 3) := dk_180 0 81 (dk_at dksX5_saysOf_6 0 rfl rfl)
theorem dX5_saysOf_146 : decode cX5_saysOf 146 = .ok (.iload_n 2, 1) := dk_28 (dk_at dksX5_saysOf_6 3 rfl rfl)
theorem dX5_saysOf_147 : decode cX5_saysOf 147 = .ok (.iconst 1, 1) := dk_4 (dk_at dksX5_saysOf_6 4 rfl rfl)
theorem dX5_saysOf_148 : decode cX5_saysOf 148 = .ok (.isub, 1) := dk_100 (dk_at dksX5_saysOf_6 5 rfl rfl)
theorem dX5_saysOf_149 : decode cX5_saysOf 149 = .ok (.iload 4, 2) := dk_21 4 (dk_at dksX5_saysOf_6 6 rfl rfl)
theorem dX5_saysOf_151 : decode cX5_saysOf 151 = .ok (.aload_n 0, 1) := dk_42 (dk_at dksX5_saysOf_6 8 rfl rfl)
theorem dX5_saysOf_152 : decode cX5_saysOf 152 = .ok (.getfield 81, 3) := dk_180 0 81 (dk_at dksX5_saysOf_6 9 rfl rfl)
theorem dX5_saysOf_155 : decode cX5_saysOf 155 = .ok (.iload_n 2, 1) := dk_28 (dk_at dksX5_saysOf_6 12 rfl rfl)
theorem dX5_saysOf_156 : decode cX5_saysOf 156 = .ok (.iconst 1, 1) := dk_4 (dk_at dksX5_saysOf_6 13 rfl rfl)
theorem dX5_saysOf_157 : decode cX5_saysOf 157 = .ok (.isub, 1) := dk_100 (dk_at dksX5_saysOf_6 14 rfl rfl)
theorem dX5_saysOf_158 : decode cX5_saysOf 158 = .ok (.laload, 1) := dk_47 (dk_at dksX5_saysOf_6 15 rfl rfl)
theorem dX5_saysOf_159 : decode cX5_saysOf 159 = .ok (.aload_n 0, 1) := dk_42 (dk_at dksX5_saysOf_6 16 rfl rfl)
theorem dX5_saysOf_160 : decode cX5_saysOf 160 = .ok (.getfield 81, 3) := dk_180 0 81 (dk_at dksX5_saysOf_6 17 rfl rfl)
theorem dX5_saysOf_163 : decode cX5_saysOf 163 = .ok (.iload_n 2, 1) := dk_28 (dk_at dksX5_saysOf_6 20 rfl rfl)
theorem dX5_saysOf_164 : decode cX5_saysOf 164 = .ok (.laload, 1) := dk_47 (dk_at dksX5_saysOf_6 21 rfl rfl)
theorem dX5_saysOf_165 : decode cX5_saysOf 165 = .ok (.invokestatic 310, 3) := dk_184 1 54 (dk_at dksX5_saysOf_7 0 rfl rfl)
theorem dX5_saysOf_168 : decode cX5_saysOf 168 = .ok (.lastore, 1) := dk_80 (dk_at dksX5_saysOf_7 3 rfl rfl)
theorem dX5_saysOf_169 : decode cX5_saysOf 169 = .ok (.iinc 3 1, 3) := dk_132 3 1 (dk_at dksX5_saysOf_7 4 rfl rfl)
theorem dX5_saysOf_172 : decode cX5_saysOf 172 = .ok (.goto (-168), 3) := dk_167 255 88 (dk_at dksX5_saysOf_7 7 rfl rfl)
theorem dX5_saysOf_175 : decode cX5_saysOf 175 = .ok (.aload_n 0, 1) := dk_42 (dk_at dksX5_saysOf_7 10 rfl rfl)
theorem dX5_saysOf_176 : decode cX5_saysOf 176 = .ok (.getfield 81, 3) := dk_180 0 81 (dk_at dksX5_saysOf_7 11 rfl rfl)
theorem dX5_saysOf_179 : decode cX5_saysOf 179 = .ok (.iconst 0, 1) := dk_3 (dk_at dksX5_saysOf_7 14 rfl rfl)
theorem dX5_saysOf_180 : decode cX5_saysOf 180 = .ok (.laload, 1) := dk_47 (dk_at dksX5_saysOf_7 15 rfl rfl)
theorem dX5_saysOf_181 : decode cX5_saysOf 181 = .ok (.lreturn, 1) := dk_173 (dk_at dksX5_saysOf_7 16 rfl rfl)
abbrev cX5_worked : ByteArray := prog_23_method_43_code
def yX5_worked : MethodName := ⟨RX5, "worked", "(IJJ)J"⟩
def dkwX5_worked_7 : List UInt8 := [167, 0, 4, 9, 173]
abbrev dktX5_worked_7 : List UInt8 := dkwX5_worked_7 ++ []
def dkwX5_worked_6 : List UInt8 := [33, 148, 155, 0, 7, 10, 167, 0, 4, 9, 173, 31, 33, 105, 173, 31, 33, 97, 9, 148, 158, 0, 7, 10]
abbrev dktX5_worked_6 : List UInt8 := dkwX5_worked_6 ++ dktX5_worked_7
def dkwX5_worked_5 : List UInt8 := [33, 148, 153, 0, 7, 10, 167, 0, 4, 9, 173, 31, 33, 148, 157, 0, 7, 10, 167, 0, 4, 9, 173, 31]
abbrev dktX5_worked_5 : List UInt8 := dkwX5_worked_5 ++ dktX5_worked_6
def dkwX5_worked_4 : List UInt8 := [33, 148, 158, 0, 7, 10, 167, 0, 4, 9, 173, 31, 33, 148, 154, 0, 7, 10, 167, 0, 4, 9, 173, 31]
abbrev dktX5_worked_4 : List UInt8 := dkwX5_worked_4 ++ dktX5_worked_5
def dkwX5_worked_3 : List UInt8 := [154, 0, 7, 9, 167, 0, 6, 31, 33, 109, 173, 31, 33, 148, 156, 0, 7, 10, 167, 0, 4, 9, 173, 31]
abbrev dktX5_worked_3 : List UInt8 := dkwX5_worked_3 ++ dktX5_worked_4
def dkwX5_worked_2 : List UInt8 := [31, 33, 97, 184, 1, 50, 173, 31, 33, 101, 184, 1, 50, 173, 31, 33, 105, 184, 1, 50, 173, 33, 9, 148]
abbrev dktX5_worked_2 : List UInt8 := dkwX5_worked_2 ++ dktX5_worked_3
def dkwX5_worked_1 : List UInt8 := [171, 0, 0, 0, 0, 0, 210, 0, 0, 0, 11, 0, 0, 0, 35, 0, 0, 0, 170, 0, 0, 0, 42, 0, 0, 0, 113, 0, 0, 0, 43, 0, 0, 0, 99, 0, 0, 0, 45, 0, 0, 0, 106, 0, 0, 0, 47, 0, 0, 0, 120, 0, 0, 0, 60, 0, 0, 0, 134, 0, 0, 0, 61, 0, 0, 0, 158, 0, 0, 0, 62, 0, 0, 0, 146, 0, 0, 1, 44, 0, 0, 0, 182, 0, 0, 1, 45, 0, 0, 0, 194, 0, 0, 1, 150, 0, 0, 0, 206]
abbrev dktX5_worked_1 : List UInt8 := dkwX5_worked_1 ++ dktX5_worked_2
def dkwX5_worked_0 : List UInt8 := [26]
abbrev dktX5_worked_0 : List UInt8 := dkwX5_worked_0 ++ dktX5_worked_1
theorem dksX5_worked_0 : cX5_worked.data.toList.drop 0 = dktX5_worked_0 := by decide +kernel
theorem dksX5_worked_1 : cX5_worked.data.toList.drop 1 = dktX5_worked_1 := dk_seg dksX5_worked_0 1 rfl rfl
theorem dksX5_worked_2 : cX5_worked.data.toList.drop 100 = dktX5_worked_2 := dk_seg dksX5_worked_1 99 rfl rfl
theorem dksX5_worked_3 : cX5_worked.data.toList.drop 124 = dktX5_worked_3 := dk_seg dksX5_worked_2 24 rfl rfl
theorem dksX5_worked_4 : cX5_worked.data.toList.drop 148 = dktX5_worked_4 := dk_seg dksX5_worked_3 24 rfl rfl
theorem dksX5_worked_5 : cX5_worked.data.toList.drop 172 = dktX5_worked_5 := dk_seg dksX5_worked_4 24 rfl rfl
theorem dksX5_worked_6 : cX5_worked.data.toList.drop 196 = dktX5_worked_6 := dk_seg dksX5_worked_5 24 rfl rfl
theorem dksX5_worked_7 : cX5_worked.data.toList.drop 220 = dktX5_worked_7 := dk_seg dksX5_worked_6 24 rfl rfl
theorem dX5_worked_0 : decode cX5_worked 0 = .ok (.iload_n 0, 1) := dk_26 (dk_at dksX5_worked_0 0 rfl rfl)
theorem dX5_worked_1 : decode cX5_worked 1 = .ok (.lookupswitch 210 #[(35, 170), (42, 113), (43, 99), (45, 106), (47, 120), (60, 134), (61, 158), (62, 146), (300, 182), (301, 194), (406, 206)], 99) := by decide +kernel
theorem dX5_worked_100 : decode cX5_worked 100 = .ok (.lload_n 1, 1) := dk_31 (dk_at dksX5_worked_2 0 rfl rfl)
theorem dX5_worked_101 : decode cX5_worked 101 = .ok (.lload_n 3, 1) := dk_33 (dk_at dksX5_worked_2 1 rfl rfl)
theorem dX5_worked_102 : decode cX5_worked 102 = .ok (.ladd, 1) := dk_97 (dk_at dksX5_worked_2 2 rfl rfl)
theorem dX5_worked_103 : decode cX5_worked 103 = .ok (.invokestatic 306, 3) := dk_184 1 50 (dk_at dksX5_worked_2 3 rfl rfl)
theorem dX5_worked_106 : decode cX5_worked 106 = .ok (.lreturn, 1) := dk_173 (dk_at dksX5_worked_2 6 rfl rfl)
theorem dX5_worked_107 : decode cX5_worked 107 = .ok (.lload_n 1, 1) := dk_31 (dk_at dksX5_worked_2 7 rfl rfl)
theorem dX5_worked_108 : decode cX5_worked 108 = .ok (.lload_n 3, 1) := dk_33 (dk_at dksX5_worked_2 8 rfl rfl)
theorem dX5_worked_109 : decode cX5_worked 109 = .ok (.lsub, 1) := dk_101 (dk_at dksX5_worked_2 9 rfl rfl)
theorem dX5_worked_110 : decode cX5_worked 110 = .ok (.invokestatic 306, 3) := dk_184 1 50 (dk_at dksX5_worked_2 10 rfl rfl)
theorem dX5_worked_113 : decode cX5_worked 113 = .ok (.lreturn, 1) := dk_173 (dk_at dksX5_worked_2 13 rfl rfl)
theorem dX5_worked_114 : decode cX5_worked 114 = .ok (.lload_n 1, 1) := dk_31 (dk_at dksX5_worked_2 14 rfl rfl)
theorem dX5_worked_115 : decode cX5_worked 115 = .ok (.lload_n 3, 1) := dk_33 (dk_at dksX5_worked_2 15 rfl rfl)
theorem dX5_worked_116 : decode cX5_worked 116 = .ok (.lmul, 1) := dk_105 (dk_at dksX5_worked_2 16 rfl rfl)
theorem dX5_worked_117 : decode cX5_worked 117 = .ok (.invokestatic 306, 3) := dk_184 1 50 (dk_at dksX5_worked_2 17 rfl rfl)
theorem dX5_worked_120 : decode cX5_worked 120 = .ok (.lreturn, 1) := dk_173 (dk_at dksX5_worked_2 20 rfl rfl)
theorem dX5_worked_121 : decode cX5_worked 121 = .ok (.lload_n 3, 1) := dk_33 (dk_at dksX5_worked_2 21 rfl rfl)
theorem dX5_worked_122 : decode cX5_worked 122 = .ok (.lconst 0, 1) := dk_9 (dk_at dksX5_worked_2 22 rfl rfl)
theorem dX5_worked_123 : decode cX5_worked 123 = .ok (.lcmp, 1) := dk_148 (dk_at dksX5_worked_2 23 rfl rfl)
theorem dX5_worked_124 : decode cX5_worked 124 = .ok (.ifCond .ne 7, 3) := dk_154 0 7 (dk_at dksX5_worked_3 0 rfl rfl)
theorem dX5_worked_127 : decode cX5_worked 127 = .ok (.lconst 0, 1) := dk_9 (dk_at dksX5_worked_3 3 rfl rfl)
theorem dX5_worked_128 : decode cX5_worked 128 = .ok (.goto 6, 3) := dk_167 0 6 (dk_at dksX5_worked_3 4 rfl rfl)
theorem dX5_worked_131 : decode cX5_worked 131 = .ok (.lload_n 1, 1) := dk_31 (dk_at dksX5_worked_3 7 rfl rfl)
theorem dX5_worked_132 : decode cX5_worked 132 = .ok (.lload_n 3, 1) := dk_33 (dk_at dksX5_worked_3 8 rfl rfl)
theorem dX5_worked_133 : decode cX5_worked 133 = .ok (.ldiv, 1) := dk_109 (dk_at dksX5_worked_3 9 rfl rfl)
theorem dX5_worked_134 : decode cX5_worked 134 = .ok (.lreturn, 1) := dk_173 (dk_at dksX5_worked_3 10 rfl rfl)
theorem dX5_worked_135 : decode cX5_worked 135 = .ok (.lload_n 1, 1) := dk_31 (dk_at dksX5_worked_3 11 rfl rfl)
theorem dX5_worked_136 : decode cX5_worked 136 = .ok (.lload_n 3, 1) := dk_33 (dk_at dksX5_worked_3 12 rfl rfl)
theorem dX5_worked_137 : decode cX5_worked 137 = .ok (.lcmp, 1) := dk_148 (dk_at dksX5_worked_3 13 rfl rfl)
theorem dX5_worked_138 : decode cX5_worked 138 = .ok (.ifCond .ge 7, 3) := dk_156 0 7 (dk_at dksX5_worked_3 14 rfl rfl)
theorem dX5_worked_141 : decode cX5_worked 141 = .ok (.lconst 1, 1) := dk_10 (dk_at dksX5_worked_3 17 rfl rfl)
theorem dX5_worked_142 : decode cX5_worked 142 = .ok (.goto 4, 3) := dk_167 0 4 (dk_at dksX5_worked_3 18 rfl rfl)
theorem dX5_worked_145 : decode cX5_worked 145 = .ok (.lconst 0, 1) := dk_9 (dk_at dksX5_worked_3 21 rfl rfl)
theorem dX5_worked_146 : decode cX5_worked 146 = .ok (.lreturn, 1) := dk_173 (dk_at dksX5_worked_3 22 rfl rfl)
theorem dX5_worked_147 : decode cX5_worked 147 = .ok (.lload_n 1, 1) := dk_31 (dk_at dksX5_worked_3 23 rfl rfl)
theorem dX5_worked_148 : decode cX5_worked 148 = .ok (.lload_n 3, 1) := dk_33 (dk_at dksX5_worked_4 0 rfl rfl)
theorem dX5_worked_149 : decode cX5_worked 149 = .ok (.lcmp, 1) := dk_148 (dk_at dksX5_worked_4 1 rfl rfl)
theorem dX5_worked_150 : decode cX5_worked 150 = .ok (.ifCond .le 7, 3) := dk_158 0 7 (dk_at dksX5_worked_4 2 rfl rfl)
theorem dX5_worked_153 : decode cX5_worked 153 = .ok (.lconst 1, 1) := dk_10 (dk_at dksX5_worked_4 5 rfl rfl)
theorem dX5_worked_154 : decode cX5_worked 154 = .ok (.goto 4, 3) := dk_167 0 4 (dk_at dksX5_worked_4 6 rfl rfl)
theorem dX5_worked_157 : decode cX5_worked 157 = .ok (.lconst 0, 1) := dk_9 (dk_at dksX5_worked_4 9 rfl rfl)
theorem dX5_worked_158 : decode cX5_worked 158 = .ok (.lreturn, 1) := dk_173 (dk_at dksX5_worked_4 10 rfl rfl)
theorem dX5_worked_159 : decode cX5_worked 159 = .ok (.lload_n 1, 1) := dk_31 (dk_at dksX5_worked_4 11 rfl rfl)
theorem dX5_worked_160 : decode cX5_worked 160 = .ok (.lload_n 3, 1) := dk_33 (dk_at dksX5_worked_4 12 rfl rfl)
theorem dX5_worked_161 : decode cX5_worked 161 = .ok (.lcmp, 1) := dk_148 (dk_at dksX5_worked_4 13 rfl rfl)
theorem dX5_worked_162 : decode cX5_worked 162 = .ok (.ifCond .ne 7, 3) := dk_154 0 7 (dk_at dksX5_worked_4 14 rfl rfl)
theorem dX5_worked_165 : decode cX5_worked 165 = .ok (.lconst 1, 1) := dk_10 (dk_at dksX5_worked_4 17 rfl rfl)
theorem dX5_worked_166 : decode cX5_worked 166 = .ok (.goto 4, 3) := dk_167 0 4 (dk_at dksX5_worked_4 18 rfl rfl)
theorem dX5_worked_169 : decode cX5_worked 169 = .ok (.lconst 0, 1) := dk_9 (dk_at dksX5_worked_4 21 rfl rfl)
theorem dX5_worked_170 : decode cX5_worked 170 = .ok (.lreturn, 1) := dk_173 (dk_at dksX5_worked_4 22 rfl rfl)
theorem dX5_worked_171 : decode cX5_worked 171 = .ok (.lload_n 1, 1) := dk_31 (dk_at dksX5_worked_4 23 rfl rfl)
theorem dX5_worked_172 : decode cX5_worked 172 = .ok (.lload_n 3, 1) := dk_33 (dk_at dksX5_worked_5 0 rfl rfl)
theorem dX5_worked_173 : decode cX5_worked 173 = .ok (.lcmp, 1) := dk_148 (dk_at dksX5_worked_5 1 rfl rfl)
theorem dX5_worked_174 : decode cX5_worked 174 = .ok (.ifCond .eq 7, 3) := dk_153 0 7 (dk_at dksX5_worked_5 2 rfl rfl)
theorem dX5_worked_177 : decode cX5_worked 177 = .ok (.lconst 1, 1) := dk_10 (dk_at dksX5_worked_5 5 rfl rfl)
theorem dX5_worked_178 : decode cX5_worked 178 = .ok (.goto 4, 3) := dk_167 0 4 (dk_at dksX5_worked_5 6 rfl rfl)
theorem dX5_worked_181 : decode cX5_worked 181 = .ok (.lconst 0, 1) := dk_9 (dk_at dksX5_worked_5 9 rfl rfl)
theorem dX5_worked_182 : decode cX5_worked 182 = .ok (.lreturn, 1) := dk_173 (dk_at dksX5_worked_5 10 rfl rfl)
theorem dX5_worked_183 : decode cX5_worked 183 = .ok (.lload_n 1, 1) := dk_31 (dk_at dksX5_worked_5 11 rfl rfl)
theorem dX5_worked_184 : decode cX5_worked 184 = .ok (.lload_n 3, 1) := dk_33 (dk_at dksX5_worked_5 12 rfl rfl)
theorem dX5_worked_185 : decode cX5_worked 185 = .ok (.lcmp, 1) := dk_148 (dk_at dksX5_worked_5 13 rfl rfl)
theorem dX5_worked_186 : decode cX5_worked 186 = .ok (.ifCond .gt 7, 3) := dk_157 0 7 (dk_at dksX5_worked_5 14 rfl rfl)
theorem dX5_worked_189 : decode cX5_worked 189 = .ok (.lconst 1, 1) := dk_10 (dk_at dksX5_worked_5 17 rfl rfl)
theorem dX5_worked_190 : decode cX5_worked 190 = .ok (.goto 4, 3) := dk_167 0 4 (dk_at dksX5_worked_5 18 rfl rfl)
theorem dX5_worked_193 : decode cX5_worked 193 = .ok (.lconst 0, 1) := dk_9 (dk_at dksX5_worked_5 21 rfl rfl)
theorem dX5_worked_194 : decode cX5_worked 194 = .ok (.lreturn, 1) := dk_173 (dk_at dksX5_worked_5 22 rfl rfl)
theorem dX5_worked_195 : decode cX5_worked 195 = .ok (.lload_n 1, 1) := dk_31 (dk_at dksX5_worked_5 23 rfl rfl)
theorem dX5_worked_196 : decode cX5_worked 196 = .ok (.lload_n 3, 1) := dk_33 (dk_at dksX5_worked_6 0 rfl rfl)
theorem dX5_worked_197 : decode cX5_worked 197 = .ok (.lcmp, 1) := dk_148 (dk_at dksX5_worked_6 1 rfl rfl)
theorem dX5_worked_198 : decode cX5_worked 198 = .ok (.ifCond .lt 7, 3) := dk_155 0 7 (dk_at dksX5_worked_6 2 rfl rfl)
theorem dX5_worked_201 : decode cX5_worked 201 = .ok (.lconst 1, 1) := dk_10 (dk_at dksX5_worked_6 5 rfl rfl)
theorem dX5_worked_202 : decode cX5_worked 202 = .ok (.goto 4, 3) := dk_167 0 4 (dk_at dksX5_worked_6 6 rfl rfl)
theorem dX5_worked_205 : decode cX5_worked 205 = .ok (.lconst 0, 1) := dk_9 (dk_at dksX5_worked_6 9 rfl rfl)
theorem dX5_worked_206 : decode cX5_worked 206 = .ok (.lreturn, 1) := dk_173 (dk_at dksX5_worked_6 10 rfl rfl)
theorem dX5_worked_207 : decode cX5_worked 207 = .ok (.lload_n 1, 1) := dk_31 (dk_at dksX5_worked_6 11 rfl rfl)
theorem dX5_worked_208 : decode cX5_worked 208 = .ok (.lload_n 3, 1) := dk_33 (dk_at dksX5_worked_6 12 rfl rfl)
theorem dX5_worked_209 : decode cX5_worked 209 = .ok (.lmul, 1) := dk_105 (dk_at dksX5_worked_6 13 rfl rfl)
theorem dX5_worked_210 : decode cX5_worked 210 = .ok (.lreturn, 1) := dk_173 (dk_at dksX5_worked_6 14 rfl rfl)
theorem dX5_worked_211 : decode cX5_worked 211 = .ok (.lload_n 1, 1) := dk_31 (dk_at dksX5_worked_6 15 rfl rfl)
theorem dX5_worked_212 : decode cX5_worked 212 = .ok (.lload_n 3, 1) := dk_33 (dk_at dksX5_worked_6 16 rfl rfl)
theorem dX5_worked_213 : decode cX5_worked 213 = .ok (.ladd, 1) := dk_97 (dk_at dksX5_worked_6 17 rfl rfl)
theorem dX5_worked_214 : decode cX5_worked 214 = .ok (.lconst 0, 1) := dk_9 (dk_at dksX5_worked_6 18 rfl rfl)
theorem dX5_worked_215 : decode cX5_worked 215 = .ok (.lcmp, 1) := dk_148 (dk_at dksX5_worked_6 19 rfl rfl)
theorem dX5_worked_216 : decode cX5_worked 216 = .ok (.ifCond .le 7, 3) := dk_158 0 7 (dk_at dksX5_worked_6 20 rfl rfl)
theorem dX5_worked_219 : decode cX5_worked 219 = .ok (.lconst 1, 1) := dk_10 (dk_at dksX5_worked_6 23 rfl rfl)
theorem dX5_worked_220 : decode cX5_worked 220 = .ok (.goto 4, 3) := dk_167 0 4 (dk_at dksX5_worked_7 0 rfl rfl)
theorem dX5_worked_223 : decode cX5_worked 223 = .ok (.lconst 0, 1) := dk_9 (dk_at dksX5_worked_7 3 rfl rfl)
theorem dX5_worked_224 : decode cX5_worked 224 = .ok (.lreturn, 1) := dk_173 (dk_at dksX5_worked_7 4 rfl rfl)
abbrev cX5_bound : ByteArray := prog_23_method_42_code
def yX5_bound : MethodName := ⟨RX5, "bound", "(J)J"⟩
def dkwX5_bound_1 : List UInt8 := [20, 1, 48, 167, 0, 4, 30, 173]
abbrev dktX5_bound_1 : List UInt8 := dkwX5_bound_1 ++ []
def dkwX5_bound_0 : List UInt8 := [30, 20, 1, 46, 148, 158, 0, 9, 20, 1, 46, 167, 0, 18, 30, 20, 1, 48, 148, 156, 0, 9]
abbrev dktX5_bound_0 : List UInt8 := dkwX5_bound_0 ++ dktX5_bound_1
theorem dksX5_bound_0 : cX5_bound.data.toList.drop 0 = dktX5_bound_0 := by decide +kernel
theorem dksX5_bound_1 : cX5_bound.data.toList.drop 22 = dktX5_bound_1 := dk_seg dksX5_bound_0 22 rfl rfl
theorem dX5_bound_0 : decode cX5_bound 0 = .ok (.lload_n 0, 1) := dk_30 (dk_at dksX5_bound_0 0 rfl rfl)
theorem dX5_bound_1 : decode cX5_bound 1 = .ok (.ldc2_w 302, 3) := dk_20 1 46 (dk_at dksX5_bound_0 1 rfl rfl)
theorem dX5_bound_4 : decode cX5_bound 4 = .ok (.lcmp, 1) := dk_148 (dk_at dksX5_bound_0 4 rfl rfl)
theorem dX5_bound_5 : decode cX5_bound 5 = .ok (.ifCond .le 9, 3) := dk_158 0 9 (dk_at dksX5_bound_0 5 rfl rfl)
theorem dX5_bound_8 : decode cX5_bound 8 = .ok (.ldc2_w 302, 3) := dk_20 1 46 (dk_at dksX5_bound_0 8 rfl rfl)
theorem dX5_bound_11 : decode cX5_bound 11 = .ok (.goto 18, 3) := dk_167 0 18 (dk_at dksX5_bound_0 11 rfl rfl)
theorem dX5_bound_14 : decode cX5_bound 14 = .ok (.lload_n 0, 1) := dk_30 (dk_at dksX5_bound_0 14 rfl rfl)
theorem dX5_bound_15 : decode cX5_bound 15 = .ok (.ldc2_w 304, 3) := dk_20 1 48 (dk_at dksX5_bound_0 15 rfl rfl)
theorem dX5_bound_18 : decode cX5_bound 18 = .ok (.lcmp, 1) := dk_148 (dk_at dksX5_bound_0 18 rfl rfl)
theorem dX5_bound_19 : decode cX5_bound 19 = .ok (.ifCond .ge 9, 3) := dk_156 0 9 (dk_at dksX5_bound_0 19 rfl rfl)
theorem dX5_bound_22 : decode cX5_bound 22 = .ok (.ldc2_w 304, 3) := dk_20 1 48 (dk_at dksX5_bound_1 0 rfl rfl)
theorem dX5_bound_25 : decode cX5_bound 25 = .ok (.goto 4, 3) := dk_167 0 4 (dk_at dksX5_bound_1 3 rfl rfl)
theorem dX5_bound_28 : decode cX5_bound 28 = .ok (.lload_n 0, 1) := dk_30 (dk_at dksX5_bound_1 6 rfl rfl)
theorem dX5_bound_29 : decode cX5_bound 29 = .ok (.lreturn, 1) := dk_173 (dk_at dksX5_bound_1 7 rfl rfl)
abbrev cX5_held : ByteArray := prog_23_method_48_code
def yX5_held : MethodName := ⟨RX5, "held", "(JII)I"⟩
def dkwX5_held_1 : List UInt8 := [172]
abbrev dktX5_held_1 : List UInt8 := dkwX5_held_1 ++ []
def dkwX5_held_0 : List UInt8 := [30, 28, 133, 148, 156, 0, 7, 28, 167, 0, 16, 30, 29, 133, 148, 158, 0, 7, 29, 167, 0, 5, 30, 136]
abbrev dktX5_held_0 : List UInt8 := dkwX5_held_0 ++ dktX5_held_1
theorem dksX5_held_0 : cX5_held.data.toList.drop 0 = dktX5_held_0 := by decide +kernel
theorem dksX5_held_1 : cX5_held.data.toList.drop 24 = dktX5_held_1 := dk_seg dksX5_held_0 24 rfl rfl
theorem dX5_held_0 : decode cX5_held 0 = .ok (.lload_n 0, 1) := dk_30 (dk_at dksX5_held_0 0 rfl rfl)
theorem dX5_held_1 : decode cX5_held 1 = .ok (.iload_n 2, 1) := dk_28 (dk_at dksX5_held_0 1 rfl rfl)
theorem dX5_held_2 : decode cX5_held 2 = .ok (.i2l, 1) := dk_133 (dk_at dksX5_held_0 2 rfl rfl)
theorem dX5_held_3 : decode cX5_held 3 = .ok (.lcmp, 1) := dk_148 (dk_at dksX5_held_0 3 rfl rfl)
theorem dX5_held_4 : decode cX5_held 4 = .ok (.ifCond .ge 7, 3) := dk_156 0 7 (dk_at dksX5_held_0 4 rfl rfl)
theorem dX5_held_7 : decode cX5_held 7 = .ok (.iload_n 2, 1) := dk_28 (dk_at dksX5_held_0 7 rfl rfl)
theorem dX5_held_8 : decode cX5_held 8 = .ok (.goto 16, 3) := dk_167 0 16 (dk_at dksX5_held_0 8 rfl rfl)
theorem dX5_held_11 : decode cX5_held 11 = .ok (.lload_n 0, 1) := dk_30 (dk_at dksX5_held_0 11 rfl rfl)
theorem dX5_held_12 : decode cX5_held 12 = .ok (.iload_n 3, 1) := dk_29 (dk_at dksX5_held_0 12 rfl rfl)
theorem dX5_held_13 : decode cX5_held 13 = .ok (.i2l, 1) := dk_133 (dk_at dksX5_held_0 13 rfl rfl)
theorem dX5_held_14 : decode cX5_held 14 = .ok (.lcmp, 1) := dk_148 (dk_at dksX5_held_0 14 rfl rfl)
theorem dX5_held_15 : decode cX5_held 15 = .ok (.ifCond .le 7, 3) := dk_158 0 7 (dk_at dksX5_held_0 15 rfl rfl)
theorem dX5_held_18 : decode cX5_held 18 = .ok (.iload_n 3, 1) := dk_29 (dk_at dksX5_held_0 18 rfl rfl)
theorem dX5_held_19 : decode cX5_held 19 = .ok (.goto 5, 3) := dk_167 0 5 (dk_at dksX5_held_0 19 rfl rfl)
theorem dX5_held_22 : decode cX5_held 22 = .ok (.lload_n 0, 1) := dk_30 (dk_at dksX5_held_0 22 rfl rfl)
theorem dX5_held_23 : decode cX5_held 23 = .ok (.l2i, 1) := dk_136 (dk_at dksX5_held_0 23 rfl rfl)
theorem dX5_held_24 : decode cX5_held 24 = .ok (.ireturn, 1) := dk_172 (dk_at dksX5_held_1 0 rfl rfl)
abbrev cX5_least : ByteArray := prog_23_method_49_code
def yX5_least : MethodName := ⟨RX5, "least", "(II)I"⟩
def dkwX5_least_0 : List UInt8 := [26, 27, 162, 0, 7, 26, 167, 0, 4, 27, 172]
abbrev dktX5_least_0 : List UInt8 := dkwX5_least_0 ++ []
theorem dksX5_least_0 : cX5_least.data.toList.drop 0 = dktX5_least_0 := by decide +kernel
theorem dX5_least_0 : decode cX5_least 0 = .ok (.iload_n 0, 1) := dk_26 (dk_at dksX5_least_0 0 rfl rfl)
theorem dX5_least_1 : decode cX5_least 1 = .ok (.iload_n 1, 1) := dk_27 (dk_at dksX5_least_0 1 rfl rfl)
theorem dX5_least_2 : decode cX5_least 2 = .ok (.if_icmp .ge 7, 3) := dk_162 0 7 (dk_at dksX5_least_0 2 rfl rfl)
theorem dX5_least_5 : decode cX5_least 5 = .ok (.iload_n 0, 1) := dk_26 (dk_at dksX5_least_0 5 rfl rfl)
theorem dX5_least_6 : decode cX5_least 6 = .ok (.goto 4, 3) := dk_167 0 4 (dk_at dksX5_least_0 6 rfl rfl)
theorem dX5_least_9 : decode cX5_least 9 = .ok (.iload_n 1, 1) := dk_27 (dk_at dksX5_least_0 9 rfl rfl)
theorem dX5_least_10 : decode cX5_least 10 = .ok (.ireturn, 1) := dk_172 (dk_at dksX5_least_0 10 rfl rfl)
abbrev cX5_judge : ByteArray := prog_23_method_58_code
def yX5_judge : MethodName := ⟨RX5, "judge", "(I)I"⟩
def dkwX5_judge_4 : List UInt8 := [46, 4, 96, 79, 28, 172]
abbrev dktX5_judge_4 : List UInt8 := dkwX5_judge_4 ++ []
def dkwX5_judge_3 : List UInt8 := [4, 96, 42, 182, 1, 84, 79, 42, 180, 0, 7, 29, 5, 96, 28, 79, 42, 180, 0, 7, 17, 1, 117, 92]
abbrev dktX5_judge_3 : List UInt8 := dkwX5_judge_3 ++ dktX5_judge_4
def dkwX5_judge_2 : List UInt8 := [6, 42, 180, 0, 7, 17, 1, 117, 46, 104, 96, 62, 42, 180, 0, 7, 29, 27, 79, 42, 180, 0, 7, 29]
abbrev dktX5_judge_2 : List UInt8 := dkwX5_judge_2 ++ dktX5_judge_3
def dkwX5_judge_1 : List UInt8 := [182, 1, 93, 42, 27, 182, 1, 96, 153, 0, 7, 4, 167, 0, 4, 3, 61, 42, 182, 1, 90, 17, 1, 118]
abbrev dktX5_judge_1 : List UInt8 := dkwX5_judge_1 ++ dktX5_judge_2
def dkwX5_judge_0 : List UInt8 := [27, 184, 0, 114, 153, 0, 16, 42, 180, 0, 7, 17, 1, 117, 46, 16, 30, 160, 0, 5, 2, 172, 42]
abbrev dktX5_judge_0 : List UInt8 := dkwX5_judge_0 ++ dktX5_judge_1
theorem dksX5_judge_0 : cX5_judge.data.toList.drop 0 = dktX5_judge_0 := by decide +kernel
theorem dksX5_judge_1 : cX5_judge.data.toList.drop 23 = dktX5_judge_1 := dk_seg dksX5_judge_0 23 rfl rfl
theorem dksX5_judge_2 : cX5_judge.data.toList.drop 47 = dktX5_judge_2 := dk_seg dksX5_judge_1 24 rfl rfl
theorem dksX5_judge_3 : cX5_judge.data.toList.drop 71 = dktX5_judge_3 := dk_seg dksX5_judge_2 24 rfl rfl
theorem dksX5_judge_4 : cX5_judge.data.toList.drop 95 = dktX5_judge_4 := dk_seg dksX5_judge_3 24 rfl rfl
theorem dX5_judge_0 : decode cX5_judge 0 = .ok (.iload_n 1, 1) := dk_27 (dk_at dksX5_judge_0 0 rfl rfl)
theorem dX5_judge_1 : decode cX5_judge 1 = .ok (.invokestatic 114, 3) := dk_184 0 114 (dk_at dksX5_judge_0 1 rfl rfl)
theorem dX5_judge_4 : decode cX5_judge 4 = .ok (.ifCond .eq 16, 3) := dk_153 0 16 (dk_at dksX5_judge_0 4 rfl rfl)
theorem dX5_judge_7 : decode cX5_judge 7 = .ok (.aload_n 0, 1) := dk_42 (dk_at dksX5_judge_0 7 rfl rfl)
theorem dX5_judge_8 : decode cX5_judge 8 = .ok (.getfield 7, 3) := dk_180 0 7 (dk_at dksX5_judge_0 8 rfl rfl)
theorem dX5_judge_11 : decode cX5_judge 11 = .ok (.sipush 373, 3) := dk_17 1 117 (dk_at dksX5_judge_0 11 rfl rfl)
theorem dX5_judge_14 : decode cX5_judge 14 = .ok (.iaload, 1) := dk_46 (dk_at dksX5_judge_0 14 rfl rfl)
theorem dX5_judge_15 : decode cX5_judge 15 = .ok (.bipush 30, 2) := dk_16 30 (dk_at dksX5_judge_0 15 rfl rfl)
theorem dX5_judge_17 : decode cX5_judge 17 = .ok (.if_icmp .ne 5, 3) := dk_160 0 5 (dk_at dksX5_judge_0 17 rfl rfl)
theorem dX5_judge_20 : decode cX5_judge 20 = .ok (.iconst (-1), 1) := dk_2 (dk_at dksX5_judge_0 20 rfl rfl)
theorem dX5_judge_21 : decode cX5_judge 21 = .ok (.ireturn, 1) := dk_172 (dk_at dksX5_judge_0 21 rfl rfl)
theorem dX5_judge_22 : decode cX5_judge 22 = .ok (.aload_n 0, 1) := dk_42 (dk_at dksX5_judge_0 22 rfl rfl)
theorem dX5_judge_23 : decode cX5_judge 23 = .ok (.invokevirtual 349, 3) := dk_182 1 93 (dk_at dksX5_judge_1 0 rfl rfl)
theorem dX5_judge_26 : decode cX5_judge 26 = .ok (.aload_n 0, 1) := dk_42 (dk_at dksX5_judge_1 3 rfl rfl)
theorem dX5_judge_27 : decode cX5_judge 27 = .ok (.iload_n 1, 1) := dk_27 (dk_at dksX5_judge_1 4 rfl rfl)
theorem dX5_judge_28 : decode cX5_judge 28 = .ok (.invokevirtual 352, 3) := dk_182 1 96 (dk_at dksX5_judge_1 5 rfl rfl)
theorem dX5_judge_31 : decode cX5_judge 31 = .ok (.ifCond .eq 7, 3) := dk_153 0 7 (dk_at dksX5_judge_1 8 rfl rfl)
theorem dX5_judge_34 : decode cX5_judge 34 = .ok (.iconst 1, 1) := dk_4 (dk_at dksX5_judge_1 11 rfl rfl)
theorem dX5_judge_35 : decode cX5_judge 35 = .ok (.goto 4, 3) := dk_167 0 4 (dk_at dksX5_judge_1 12 rfl rfl)
theorem dX5_judge_38 : decode cX5_judge 38 = .ok (.iconst 0, 1) := dk_3 (dk_at dksX5_judge_1 15 rfl rfl)
theorem dX5_judge_39 : decode cX5_judge 39 = .ok (.istore_n 2, 1) := dk_61 (dk_at dksX5_judge_1 16 rfl rfl)
theorem dX5_judge_40 : decode cX5_judge 40 = .ok (.aload_n 0, 1) := dk_42 (dk_at dksX5_judge_1 17 rfl rfl)
theorem dX5_judge_41 : decode cX5_judge 41 = .ok (.invokevirtual 346, 3) := dk_182 1 90 (dk_at dksX5_judge_1 18 rfl rfl)
theorem dX5_judge_44 : decode cX5_judge 44 = .ok (.sipush 374, 3) := dk_17 1 118 (dk_at dksX5_judge_1 21 rfl rfl)
theorem dX5_judge_47 : decode cX5_judge 47 = .ok (.iconst 3, 1) := dk_6 (dk_at dksX5_judge_2 0 rfl rfl)
theorem dX5_judge_48 : decode cX5_judge 48 = .ok (.aload_n 0, 1) := dk_42 (dk_at dksX5_judge_2 1 rfl rfl)
theorem dX5_judge_49 : decode cX5_judge 49 = .ok (.getfield 7, 3) := dk_180 0 7 (dk_at dksX5_judge_2 2 rfl rfl)
theorem dX5_judge_52 : decode cX5_judge 52 = .ok (.sipush 373, 3) := dk_17 1 117 (dk_at dksX5_judge_2 5 rfl rfl)
theorem dX5_judge_55 : decode cX5_judge 55 = .ok (.iaload, 1) := dk_46 (dk_at dksX5_judge_2 8 rfl rfl)
theorem dX5_judge_56 : decode cX5_judge 56 = .ok (.imul, 1) := dk_104 (dk_at dksX5_judge_2 9 rfl rfl)
theorem dX5_judge_57 : decode cX5_judge 57 = .ok (.iadd, 1) := dk_96 (dk_at dksX5_judge_2 10 rfl rfl)
theorem dX5_judge_58 : decode cX5_judge 58 = .ok (.istore_n 3, 1) := dk_62 (dk_at dksX5_judge_2 11 rfl rfl)
theorem dX5_judge_59 : decode cX5_judge 59 = .ok (.aload_n 0, 1) := dk_42 (dk_at dksX5_judge_2 12 rfl rfl)
theorem dX5_judge_60 : decode cX5_judge 60 = .ok (.getfield 7, 3) := dk_180 0 7 (dk_at dksX5_judge_2 13 rfl rfl)
theorem dX5_judge_63 : decode cX5_judge 63 = .ok (.iload_n 3, 1) := dk_29 (dk_at dksX5_judge_2 16 rfl rfl)
theorem dX5_judge_64 : decode cX5_judge 64 = .ok (.iload_n 1, 1) := dk_27 (dk_at dksX5_judge_2 17 rfl rfl)
theorem dX5_judge_65 : decode cX5_judge 65 = .ok (.iastore, 1) := dk_79 (dk_at dksX5_judge_2 18 rfl rfl)
theorem dX5_judge_66 : decode cX5_judge 66 = .ok (.aload_n 0, 1) := dk_42 (dk_at dksX5_judge_2 19 rfl rfl)
theorem dX5_judge_67 : decode cX5_judge 67 = .ok (.getfield 7, 3) := dk_180 0 7 (dk_at dksX5_judge_2 20 rfl rfl)
theorem dX5_judge_70 : decode cX5_judge 70 = .ok (.iload_n 3, 1) := dk_29 (dk_at dksX5_judge_2 23 rfl rfl)
theorem dX5_judge_71 : decode cX5_judge 71 = .ok (.iconst 1, 1) := dk_4 (dk_at dksX5_judge_3 0 rfl rfl)
theorem dX5_judge_72 : decode cX5_judge 72 = .ok (.iadd, 1) := dk_96 (dk_at dksX5_judge_3 1 rfl rfl)
theorem dX5_judge_73 : decode cX5_judge 73 = .ok (.aload_n 0, 1) := dk_42 (dk_at dksX5_judge_3 2 rfl rfl)
theorem dX5_judge_74 : decode cX5_judge 74 = .ok (.invokevirtual 340, 3) := dk_182 1 84 (dk_at dksX5_judge_3 3 rfl rfl)
theorem dX5_judge_77 : decode cX5_judge 77 = .ok (.iastore, 1) := dk_79 (dk_at dksX5_judge_3 6 rfl rfl)
theorem dX5_judge_78 : decode cX5_judge 78 = .ok (.aload_n 0, 1) := dk_42 (dk_at dksX5_judge_3 7 rfl rfl)
theorem dX5_judge_79 : decode cX5_judge 79 = .ok (.getfield 7, 3) := dk_180 0 7 (dk_at dksX5_judge_3 8 rfl rfl)
theorem dX5_judge_82 : decode cX5_judge 82 = .ok (.iload_n 3, 1) := dk_29 (dk_at dksX5_judge_3 11 rfl rfl)
theorem dX5_judge_83 : decode cX5_judge 83 = .ok (.iconst 2, 1) := dk_5 (dk_at dksX5_judge_3 12 rfl rfl)
theorem dX5_judge_84 : decode cX5_judge 84 = .ok (.iadd, 1) := dk_96 (dk_at dksX5_judge_3 13 rfl rfl)
theorem dX5_judge_85 : decode cX5_judge 85 = .ok (.iload_n 2, 1) := dk_28 (dk_at dksX5_judge_3 14 rfl rfl)
theorem dX5_judge_86 : decode cX5_judge 86 = .ok (.iastore, 1) := dk_79 (dk_at dksX5_judge_3 15 rfl rfl)
theorem dX5_judge_87 : decode cX5_judge 87 = .ok (.aload_n 0, 1) := dk_42 (dk_at dksX5_judge_3 16 rfl rfl)
theorem dX5_judge_88 : decode cX5_judge 88 = .ok (.getfield 7, 3) := dk_180 0 7 (dk_at dksX5_judge_3 17 rfl rfl)
theorem dX5_judge_91 : decode cX5_judge 91 = .ok (.sipush 373, 3) := dk_17 1 117 (dk_at dksX5_judge_3 20 rfl rfl)
theorem dX5_judge_94 : decode cX5_judge 94 = .ok (.dup2, 1) := dk_92 (dk_at dksX5_judge_3 23 rfl rfl)
theorem dX5_judge_95 : decode cX5_judge 95 = .ok (.iaload, 1) := dk_46 (dk_at dksX5_judge_4 0 rfl rfl)
theorem dX5_judge_96 : decode cX5_judge 96 = .ok (.iconst 1, 1) := dk_4 (dk_at dksX5_judge_4 1 rfl rfl)
theorem dX5_judge_97 : decode cX5_judge 97 = .ok (.iadd, 1) := dk_96 (dk_at dksX5_judge_4 2 rfl rfl)
theorem dX5_judge_98 : decode cX5_judge 98 = .ok (.iastore, 1) := dk_79 (dk_at dksX5_judge_4 3 rfl rfl)
theorem dX5_judge_99 : decode cX5_judge 99 = .ok (.iload_n 2, 1) := dk_28 (dk_at dksX5_judge_4 4 rfl rfl)
theorem dX5_judge_100 : decode cX5_judge 100 = .ok (.ireturn, 1) := dk_172 (dk_at dksX5_judge_4 5 rfl rfl)
abbrev cX5_isGuilty : ByteArray := prog_23_method_55_code
def yX5_isGuilty : MethodName := ⟨RX5, "isGuilty", "(I)Z"⟩
def dkwX5_isGuilty_5 : List UInt8 := [172]
abbrev dktX5_isGuilty_5 : List UInt8 := dkwX5_isGuilty_5 ++ []
def dkwX5_isGuilty_4 : List UInt8 := [42, 180, 0, 7, 17, 1, 117, 46, 79, 42, 28, 182, 1, 67, 9, 148, 158, 0, 7, 4, 167, 0, 4, 3]
abbrev dktX5_isGuilty_4 : List UInt8 := dkwX5_isGuilty_4 ++ dktX5_isGuilty_5
def dkwX5_isGuilty_3 : List UInt8 := [79, 42, 180, 0, 78, 16, 10, 42, 180, 0, 85, 5, 27, 104, 4, 96, 46, 79, 42, 180, 0, 78, 16, 11]
abbrev dktX5_isGuilty_3 : List UInt8 := dkwX5_isGuilty_3 ++ dktX5_isGuilty_4
def dkwX5_isGuilty_2 : List UInt8 := [27, 79, 42, 180, 0, 78, 16, 8, 29, 79, 42, 180, 0, 78, 16, 9, 42, 180, 0, 85, 5, 27, 104, 46]
abbrev dktX5_isGuilty_2 : List UInt8 := dkwX5_isGuilty_2 ++ dktX5_isGuilty_3
def dkwX5_isGuilty_1 : List UInt8 := [4, 167, 0, 16, 3, 167, 0, 12, 29, 158, 0, 7, 4, 167, 0, 4, 3, 172, 42, 180, 0, 78, 16, 7]
abbrev dktX5_isGuilty_1 : List UInt8 := dkwX5_isGuilty_1 ++ dktX5_isGuilty_2
def dkwX5_isGuilty_0 : List UInt8 := [42, 5, 182, 1, 61, 61, 42, 182, 1, 84, 62, 28, 2, 160, 0, 29, 27, 154, 0, 15, 29, 156, 0, 7]
abbrev dktX5_isGuilty_0 : List UInt8 := dkwX5_isGuilty_0 ++ dktX5_isGuilty_1
theorem dksX5_isGuilty_0 : cX5_isGuilty.data.toList.drop 0 = dktX5_isGuilty_0 := by decide +kernel
theorem dksX5_isGuilty_1 : cX5_isGuilty.data.toList.drop 24 = dktX5_isGuilty_1 := dk_seg dksX5_isGuilty_0 24 rfl rfl
theorem dksX5_isGuilty_2 : cX5_isGuilty.data.toList.drop 48 = dktX5_isGuilty_2 := dk_seg dksX5_isGuilty_1 24 rfl rfl
theorem dksX5_isGuilty_3 : cX5_isGuilty.data.toList.drop 72 = dktX5_isGuilty_3 := dk_seg dksX5_isGuilty_2 24 rfl rfl
theorem dksX5_isGuilty_4 : cX5_isGuilty.data.toList.drop 96 = dktX5_isGuilty_4 := dk_seg dksX5_isGuilty_3 24 rfl rfl
theorem dksX5_isGuilty_5 : cX5_isGuilty.data.toList.drop 120 = dktX5_isGuilty_5 := dk_seg dksX5_isGuilty_4 24 rfl rfl
theorem dX5_isGuilty_0 : decode cX5_isGuilty 0 = .ok (.aload_n 0, 1) := dk_42 (dk_at dksX5_isGuilty_0 0 rfl rfl)
theorem dX5_isGuilty_1 : decode cX5_isGuilty 1 = .ok (.iconst 2, 1) := dk_5 (dk_at dksX5_isGuilty_0 1 rfl rfl)
theorem dX5_isGuilty_2 : decode cX5_isGuilty 2 = .ok (.invokevirtual 317, 3) := dk_182 1 61 (dk_at dksX5_isGuilty_0 2 rfl rfl)
theorem dX5_isGuilty_5 : decode cX5_isGuilty 5 = .ok (.istore_n 2, 1) := dk_61 (dk_at dksX5_isGuilty_0 5 rfl rfl)
theorem dX5_isGuilty_6 : decode cX5_isGuilty 6 = .ok (.aload_n 0, 1) := dk_42 (dk_at dksX5_isGuilty_0 6 rfl rfl)
theorem dX5_isGuilty_7 : decode cX5_isGuilty 7 = .ok (.invokevirtual 340, 3) := dk_182 1 84 (dk_at dksX5_isGuilty_0 7 rfl rfl)
theorem dX5_isGuilty_10 : decode cX5_isGuilty 10 = .ok (.istore_n 3, 1) := dk_62 (dk_at dksX5_isGuilty_0 10 rfl rfl)
theorem dX5_isGuilty_11 : decode cX5_isGuilty 11 = .ok (.iload_n 2, 1) := dk_28 (dk_at dksX5_isGuilty_0 11 rfl rfl)
theorem dX5_isGuilty_12 : decode cX5_isGuilty 12 = .ok (.iconst (-1), 1) := dk_2 (dk_at dksX5_isGuilty_0 12 rfl rfl)
theorem dX5_isGuilty_13 : decode cX5_isGuilty 13 = .ok (.if_icmp .ne 29, 3) := dk_160 0 29 (dk_at dksX5_isGuilty_0 13 rfl rfl)
theorem dX5_isGuilty_16 : decode cX5_isGuilty 16 = .ok (.iload_n 1, 1) := dk_27 (dk_at dksX5_isGuilty_0 16 rfl rfl)
theorem dX5_isGuilty_17 : decode cX5_isGuilty 17 = .ok (.ifCond .ne 15, 3) := dk_154 0 15 (dk_at dksX5_isGuilty_0 17 rfl rfl)
theorem dX5_isGuilty_20 : decode cX5_isGuilty 20 = .ok (.iload_n 3, 1) := dk_29 (dk_at dksX5_isGuilty_0 20 rfl rfl)
theorem dX5_isGuilty_21 : decode cX5_isGuilty 21 = .ok (.ifCond .ge 7, 3) := dk_156 0 7 (dk_at dksX5_isGuilty_0 21 rfl rfl)
theorem dX5_isGuilty_24 : decode cX5_isGuilty 24 = .ok (.iconst 1, 1) := dk_4 (dk_at dksX5_isGuilty_1 0 rfl rfl)
theorem dX5_isGuilty_25 : decode cX5_isGuilty 25 = .ok (.goto 16, 3) := dk_167 0 16 (dk_at dksX5_isGuilty_1 1 rfl rfl)
theorem dX5_isGuilty_28 : decode cX5_isGuilty 28 = .ok (.iconst 0, 1) := dk_3 (dk_at dksX5_isGuilty_1 4 rfl rfl)
theorem dX5_isGuilty_29 : decode cX5_isGuilty 29 = .ok (.goto 12, 3) := dk_167 0 12 (dk_at dksX5_isGuilty_1 5 rfl rfl)
theorem dX5_isGuilty_32 : decode cX5_isGuilty 32 = .ok (.iload_n 3, 1) := dk_29 (dk_at dksX5_isGuilty_1 8 rfl rfl)
theorem dX5_isGuilty_33 : decode cX5_isGuilty 33 = .ok (.ifCond .le 7, 3) := dk_158 0 7 (dk_at dksX5_isGuilty_1 9 rfl rfl)
theorem dX5_isGuilty_36 : decode cX5_isGuilty 36 = .ok (.iconst 1, 1) := dk_4 (dk_at dksX5_isGuilty_1 12 rfl rfl)
theorem dX5_isGuilty_37 : decode cX5_isGuilty 37 = .ok (.goto 4, 3) := dk_167 0 4 (dk_at dksX5_isGuilty_1 13 rfl rfl)
theorem dX5_isGuilty_40 : decode cX5_isGuilty 40 = .ok (.iconst 0, 1) := dk_3 (dk_at dksX5_isGuilty_1 16 rfl rfl)
theorem dX5_isGuilty_41 : decode cX5_isGuilty 41 = .ok (.ireturn, 1) := dk_172 (dk_at dksX5_isGuilty_1 17 rfl rfl)
theorem dX5_isGuilty_42 : decode cX5_isGuilty 42 = .ok (.aload_n 0, 1) := dk_42 (dk_at dksX5_isGuilty_1 18 rfl rfl)
theorem dX5_isGuilty_43 : decode cX5_isGuilty 43 = .ok (.getfield 78, 3) := dk_180 0 78 (dk_at dksX5_isGuilty_1 19 rfl rfl)
theorem dX5_isGuilty_46 : decode cX5_isGuilty 46 = .ok (.bipush 7, 2) := dk_16 7 (dk_at dksX5_isGuilty_1 22 rfl rfl)
theorem dX5_isGuilty_48 : decode cX5_isGuilty 48 = .ok (.iload_n 1, 1) := dk_27 (dk_at dksX5_isGuilty_2 0 rfl rfl)
theorem dX5_isGuilty_49 : decode cX5_isGuilty 49 = .ok (.iastore, 1) := dk_79 (dk_at dksX5_isGuilty_2 1 rfl rfl)
theorem dX5_isGuilty_50 : decode cX5_isGuilty 50 = .ok (.aload_n 0, 1) := dk_42 (dk_at dksX5_isGuilty_2 2 rfl rfl)
theorem dX5_isGuilty_51 : decode cX5_isGuilty 51 = .ok (.getfield 78, 3) := dk_180 0 78 (dk_at dksX5_isGuilty_2 3 rfl rfl)
theorem dX5_isGuilty_54 : decode cX5_isGuilty 54 = .ok (.bipush 8, 2) := dk_16 8 (dk_at dksX5_isGuilty_2 6 rfl rfl)
theorem dX5_isGuilty_56 : decode cX5_isGuilty 56 = .ok (.iload_n 3, 1) := dk_29 (dk_at dksX5_isGuilty_2 8 rfl rfl)
theorem dX5_isGuilty_57 : decode cX5_isGuilty 57 = .ok (.iastore, 1) := dk_79 (dk_at dksX5_isGuilty_2 9 rfl rfl)
theorem dX5_isGuilty_58 : decode cX5_isGuilty 58 = .ok (.aload_n 0, 1) := dk_42 (dk_at dksX5_isGuilty_2 10 rfl rfl)
theorem dX5_isGuilty_59 : decode cX5_isGuilty 59 = .ok (.getfield 78, 3) := dk_180 0 78 (dk_at dksX5_isGuilty_2 11 rfl rfl)
theorem dX5_isGuilty_62 : decode cX5_isGuilty 62 = .ok (.bipush 9, 2) := dk_16 9 (dk_at dksX5_isGuilty_2 14 rfl rfl)
theorem dX5_isGuilty_64 : decode cX5_isGuilty 64 = .ok (.aload_n 0, 1) := dk_42 (dk_at dksX5_isGuilty_2 16 rfl rfl)
theorem dX5_isGuilty_65 : decode cX5_isGuilty 65 = .ok (.getfield 85, 3) := dk_180 0 85 (dk_at dksX5_isGuilty_2 17 rfl rfl)
theorem dX5_isGuilty_68 : decode cX5_isGuilty 68 = .ok (.iconst 2, 1) := dk_5 (dk_at dksX5_isGuilty_2 20 rfl rfl)
theorem dX5_isGuilty_69 : decode cX5_isGuilty 69 = .ok (.iload_n 1, 1) := dk_27 (dk_at dksX5_isGuilty_2 21 rfl rfl)
theorem dX5_isGuilty_70 : decode cX5_isGuilty 70 = .ok (.imul, 1) := dk_104 (dk_at dksX5_isGuilty_2 22 rfl rfl)
theorem dX5_isGuilty_71 : decode cX5_isGuilty 71 = .ok (.iaload, 1) := dk_46 (dk_at dksX5_isGuilty_2 23 rfl rfl)
theorem dX5_isGuilty_72 : decode cX5_isGuilty 72 = .ok (.iastore, 1) := dk_79 (dk_at dksX5_isGuilty_3 0 rfl rfl)
theorem dX5_isGuilty_73 : decode cX5_isGuilty 73 = .ok (.aload_n 0, 1) := dk_42 (dk_at dksX5_isGuilty_3 1 rfl rfl)
theorem dX5_isGuilty_74 : decode cX5_isGuilty 74 = .ok (.getfield 78, 3) := dk_180 0 78 (dk_at dksX5_isGuilty_3 2 rfl rfl)
theorem dX5_isGuilty_77 : decode cX5_isGuilty 77 = .ok (.bipush 10, 2) := dk_16 10 (dk_at dksX5_isGuilty_3 5 rfl rfl)
theorem dX5_isGuilty_79 : decode cX5_isGuilty 79 = .ok (.aload_n 0, 1) := dk_42 (dk_at dksX5_isGuilty_3 7 rfl rfl)
theorem dX5_isGuilty_80 : decode cX5_isGuilty 80 = .ok (.getfield 85, 3) := dk_180 0 85 (dk_at dksX5_isGuilty_3 8 rfl rfl)
theorem dX5_isGuilty_83 : decode cX5_isGuilty 83 = .ok (.iconst 2, 1) := dk_5 (dk_at dksX5_isGuilty_3 11 rfl rfl)
theorem dX5_isGuilty_84 : decode cX5_isGuilty 84 = .ok (.iload_n 1, 1) := dk_27 (dk_at dksX5_isGuilty_3 12 rfl rfl)
theorem dX5_isGuilty_85 : decode cX5_isGuilty 85 = .ok (.imul, 1) := dk_104 (dk_at dksX5_isGuilty_3 13 rfl rfl)
theorem dX5_isGuilty_86 : decode cX5_isGuilty 86 = .ok (.iconst 1, 1) := dk_4 (dk_at dksX5_isGuilty_3 14 rfl rfl)
theorem dX5_isGuilty_87 : decode cX5_isGuilty 87 = .ok (.iadd, 1) := dk_96 (dk_at dksX5_isGuilty_3 15 rfl rfl)
theorem dX5_isGuilty_88 : decode cX5_isGuilty 88 = .ok (.iaload, 1) := dk_46 (dk_at dksX5_isGuilty_3 16 rfl rfl)
theorem dX5_isGuilty_89 : decode cX5_isGuilty 89 = .ok (.iastore, 1) := dk_79 (dk_at dksX5_isGuilty_3 17 rfl rfl)
theorem dX5_isGuilty_90 : decode cX5_isGuilty 90 = .ok (.aload_n 0, 1) := dk_42 (dk_at dksX5_isGuilty_3 18 rfl rfl)
theorem dX5_isGuilty_91 : decode cX5_isGuilty 91 = .ok (.getfield 78, 3) := dk_180 0 78 (dk_at dksX5_isGuilty_3 19 rfl rfl)
theorem dX5_isGuilty_94 : decode cX5_isGuilty 94 = .ok (.bipush 11, 2) := dk_16 11 (dk_at dksX5_isGuilty_3 22 rfl rfl)
theorem dX5_isGuilty_96 : decode cX5_isGuilty 96 = .ok (.aload_n 0, 1) := dk_42 (dk_at dksX5_isGuilty_4 0 rfl rfl)
theorem dX5_isGuilty_97 : decode cX5_isGuilty 97 = .ok (.getfield 7, 3) := dk_180 0 7 (dk_at dksX5_isGuilty_4 1 rfl rfl)
theorem dX5_isGuilty_100 : decode cX5_isGuilty 100 = .ok (.sipush 373, 3) := dk_17 1 117 (dk_at dksX5_isGuilty_4 4 rfl rfl)
theorem dX5_isGuilty_103 : decode cX5_isGuilty 103 = .ok (.iaload, 1) := dk_46 (dk_at dksX5_isGuilty_4 7 rfl rfl)
theorem dX5_isGuilty_104 : decode cX5_isGuilty 104 = .ok (.iastore, 1) := dk_79 (dk_at dksX5_isGuilty_4 8 rfl rfl)
theorem dX5_isGuilty_105 : decode cX5_isGuilty 105 = .ok (.aload_n 0, 1) := dk_42 (dk_at dksX5_isGuilty_4 9 rfl rfl)
theorem dX5_isGuilty_106 : decode cX5_isGuilty 106 = .ok (.iload_n 2, 1) := dk_28 (dk_at dksX5_isGuilty_4 10 rfl rfl)
theorem dX5_isGuilty_107 : decode cX5_isGuilty 107 = .ok (.invokevirtual 323, 3) := dk_182 1 67 (dk_at dksX5_isGuilty_4 11 rfl rfl)
theorem dX5_isGuilty_110 : decode cX5_isGuilty 110 = .ok (.lconst 0, 1) := dk_9 (dk_at dksX5_isGuilty_4 14 rfl rfl)
theorem dX5_isGuilty_111 : decode cX5_isGuilty 111 = .ok (.lcmp, 1) := dk_148 (dk_at dksX5_isGuilty_4 15 rfl rfl)
theorem dX5_isGuilty_112 : decode cX5_isGuilty 112 = .ok (.ifCond .le 7, 3) := dk_158 0 7 (dk_at dksX5_isGuilty_4 16 rfl rfl)
theorem dX5_isGuilty_115 : decode cX5_isGuilty 115 = .ok (.iconst 1, 1) := dk_4 (dk_at dksX5_isGuilty_4 19 rfl rfl)
theorem dX5_isGuilty_116 : decode cX5_isGuilty 116 = .ok (.goto 4, 3) := dk_167 0 4 (dk_at dksX5_isGuilty_4 20 rfl rfl)
theorem dX5_isGuilty_119 : decode cX5_isGuilty 119 = .ok (.iconst 0, 1) := dk_3 (dk_at dksX5_isGuilty_4 23 rfl rfl)
theorem dX5_isGuilty_120 : decode cX5_isGuilty 120 = .ok (.ireturn, 1) := dk_172 (dk_at dksX5_isGuilty_5 0 rfl rfl)
abbrev cX5_tilt : ByteArray := prog_23_method_54_code
def yX5_tilt : MethodName := ⟨RX5, "tilt", "()I"⟩
def dkwX5_tilt_1 : List UInt8 := [6, 46, 100, 172]
abbrev dktX5_tilt_1 : List UInt8 := dkwX5_tilt_1 ++ []
def dkwX5_tilt_0 : List UInt8 := [42, 180, 0, 85, 3, 46, 42, 180, 0, 85, 4, 46, 96, 42, 180, 0, 85, 5, 46, 100, 42, 180, 0, 85]
abbrev dktX5_tilt_0 : List UInt8 := dkwX5_tilt_0 ++ dktX5_tilt_1
theorem dksX5_tilt_0 : cX5_tilt.data.toList.drop 0 = dktX5_tilt_0 := by decide +kernel
theorem dksX5_tilt_1 : cX5_tilt.data.toList.drop 24 = dktX5_tilt_1 := dk_seg dksX5_tilt_0 24 rfl rfl
theorem dX5_tilt_0 : decode cX5_tilt 0 = .ok (.aload_n 0, 1) := dk_42 (dk_at dksX5_tilt_0 0 rfl rfl)
theorem dX5_tilt_1 : decode cX5_tilt 1 = .ok (.getfield 85, 3) := dk_180 0 85 (dk_at dksX5_tilt_0 1 rfl rfl)
theorem dX5_tilt_4 : decode cX5_tilt 4 = .ok (.iconst 0, 1) := dk_3 (dk_at dksX5_tilt_0 4 rfl rfl)
theorem dX5_tilt_5 : decode cX5_tilt 5 = .ok (.iaload, 1) := dk_46 (dk_at dksX5_tilt_0 5 rfl rfl)
theorem dX5_tilt_6 : decode cX5_tilt 6 = .ok (.aload_n 0, 1) := dk_42 (dk_at dksX5_tilt_0 6 rfl rfl)
theorem dX5_tilt_7 : decode cX5_tilt 7 = .ok (.getfield 85, 3) := dk_180 0 85 (dk_at dksX5_tilt_0 7 rfl rfl)
theorem dX5_tilt_10 : decode cX5_tilt 10 = .ok (.iconst 1, 1) := dk_4 (dk_at dksX5_tilt_0 10 rfl rfl)
theorem dX5_tilt_11 : decode cX5_tilt 11 = .ok (.iaload, 1) := dk_46 (dk_at dksX5_tilt_0 11 rfl rfl)
theorem dX5_tilt_12 : decode cX5_tilt 12 = .ok (.iadd, 1) := dk_96 (dk_at dksX5_tilt_0 12 rfl rfl)
theorem dX5_tilt_13 : decode cX5_tilt 13 = .ok (.aload_n 0, 1) := dk_42 (dk_at dksX5_tilt_0 13 rfl rfl)
theorem dX5_tilt_14 : decode cX5_tilt 14 = .ok (.getfield 85, 3) := dk_180 0 85 (dk_at dksX5_tilt_0 14 rfl rfl)
theorem dX5_tilt_17 : decode cX5_tilt 17 = .ok (.iconst 2, 1) := dk_5 (dk_at dksX5_tilt_0 17 rfl rfl)
theorem dX5_tilt_18 : decode cX5_tilt 18 = .ok (.iaload, 1) := dk_46 (dk_at dksX5_tilt_0 18 rfl rfl)
theorem dX5_tilt_19 : decode cX5_tilt 19 = .ok (.isub, 1) := dk_100 (dk_at dksX5_tilt_0 19 rfl rfl)
theorem dX5_tilt_20 : decode cX5_tilt 20 = .ok (.aload_n 0, 1) := dk_42 (dk_at dksX5_tilt_0 20 rfl rfl)
theorem dX5_tilt_21 : decode cX5_tilt 21 = .ok (.getfield 85, 3) := dk_180 0 85 (dk_at dksX5_tilt_0 21 rfl rfl)
theorem dX5_tilt_24 : decode cX5_tilt 24 = .ok (.iconst 3, 1) := dk_6 (dk_at dksX5_tilt_1 0 rfl rfl)
theorem dX5_tilt_25 : decode cX5_tilt 25 = .ok (.iaload, 1) := dk_46 (dk_at dksX5_tilt_1 1 rfl rfl)
theorem dX5_tilt_26 : decode cX5_tilt 26 = .ok (.isub, 1) := dk_100 (dk_at dksX5_tilt_1 2 rfl rfl)
theorem dX5_tilt_27 : decode cX5_tilt 27 = .ok (.ireturn, 1) := dk_172 (dk_at dksX5_tilt_1 3 rfl rfl)
abbrev cX5_flies : ByteArray := prog_23_method_60_code
def yX5_flies : MethodName := ⟨RX5, "flies", "(I)I"⟩
def dkwX5_flies_2 : List UInt8 := [180, 0, 7, 16, 110, 21, 4, 96, 92, 46, 4, 100, 79, 132, 2, 1, 132, 3, 1, 167, 255, 211, 28, 172]
abbrev dktX5_flies_2 : List UInt8 := dkwX5_flies_2 ++ []
def dkwX5_flies_1 : List UInt8 := [162, 0, 46, 42, 7, 182, 1, 99, 54, 4, 42, 180, 0, 7, 16, 110, 21, 4, 96, 46, 158, 0, 20, 42]
abbrev dktX5_flies_1 : List UInt8 := dkwX5_flies_1 ++ dktX5_flies_2
def dkwX5_flies_0 : List UInt8 := [27, 4, 16, 40, 184, 0, 110, 154, 0, 5, 2, 172, 42, 182, 1, 90, 3, 61, 3, 62, 29, 27]
abbrev dktX5_flies_0 : List UInt8 := dkwX5_flies_0 ++ dktX5_flies_1
theorem dksX5_flies_0 : cX5_flies.data.toList.drop 0 = dktX5_flies_0 := by decide +kernel
theorem dksX5_flies_1 : cX5_flies.data.toList.drop 22 = dktX5_flies_1 := dk_seg dksX5_flies_0 22 rfl rfl
theorem dksX5_flies_2 : cX5_flies.data.toList.drop 46 = dktX5_flies_2 := dk_seg dksX5_flies_1 24 rfl rfl
theorem dX5_flies_0 : decode cX5_flies 0 = .ok (.iload_n 1, 1) := dk_27 (dk_at dksX5_flies_0 0 rfl rfl)
theorem dX5_flies_1 : decode cX5_flies 1 = .ok (.iconst 1, 1) := dk_4 (dk_at dksX5_flies_0 1 rfl rfl)
theorem dX5_flies_2 : decode cX5_flies 2 = .ok (.bipush 40, 2) := dk_16 40 (dk_at dksX5_flies_0 2 rfl rfl)
theorem dX5_flies_4 : decode cX5_flies 4 = .ok (.invokestatic 110, 3) := dk_184 0 110 (dk_at dksX5_flies_0 4 rfl rfl)
theorem dX5_flies_7 : decode cX5_flies 7 = .ok (.ifCond .ne 5, 3) := dk_154 0 5 (dk_at dksX5_flies_0 7 rfl rfl)
theorem dX5_flies_10 : decode cX5_flies 10 = .ok (.iconst (-1), 1) := dk_2 (dk_at dksX5_flies_0 10 rfl rfl)
theorem dX5_flies_11 : decode cX5_flies 11 = .ok (.ireturn, 1) := dk_172 (dk_at dksX5_flies_0 11 rfl rfl)
theorem dX5_flies_12 : decode cX5_flies 12 = .ok (.aload_n 0, 1) := dk_42 (dk_at dksX5_flies_0 12 rfl rfl)
theorem dX5_flies_13 : decode cX5_flies 13 = .ok (.invokevirtual 346, 3) := dk_182 1 90 (dk_at dksX5_flies_0 13 rfl rfl)
theorem dX5_flies_16 : decode cX5_flies 16 = .ok (.iconst 0, 1) := dk_3 (dk_at dksX5_flies_0 16 rfl rfl)
theorem dX5_flies_17 : decode cX5_flies 17 = .ok (.istore_n 2, 1) := dk_61 (dk_at dksX5_flies_0 17 rfl rfl)
theorem dX5_flies_18 : decode cX5_flies 18 = .ok (.iconst 0, 1) := dk_3 (dk_at dksX5_flies_0 18 rfl rfl)
theorem dX5_flies_19 : decode cX5_flies 19 = .ok (.istore_n 3, 1) := dk_62 (dk_at dksX5_flies_0 19 rfl rfl)
theorem dX5_flies_20 : decode cX5_flies 20 = .ok (.iload_n 3, 1) := dk_29 (dk_at dksX5_flies_0 20 rfl rfl)
theorem dX5_flies_21 : decode cX5_flies 21 = .ok (.iload_n 1, 1) := dk_27 (dk_at dksX5_flies_0 21 rfl rfl)
theorem dX5_flies_22 : decode cX5_flies 22 = .ok (.if_icmp .ge 46, 3) := dk_162 0 46 (dk_at dksX5_flies_1 0 rfl rfl)
theorem dX5_flies_25 : decode cX5_flies 25 = .ok (.aload_n 0, 1) := dk_42 (dk_at dksX5_flies_1 3 rfl rfl)
theorem dX5_flies_26 : decode cX5_flies 26 = .ok (.iconst 4, 1) := dk_7 (dk_at dksX5_flies_1 4 rfl rfl)
theorem dX5_flies_27 : decode cX5_flies 27 = .ok (.invokevirtual 355, 3) := dk_182 1 99 (dk_at dksX5_flies_1 5 rfl rfl)
theorem dX5_flies_30 : decode cX5_flies 30 = .ok (.istore 4, 2) := dk_54 4 (dk_at dksX5_flies_1 8 rfl rfl)
theorem dX5_flies_32 : decode cX5_flies 32 = .ok (.aload_n 0, 1) := dk_42 (dk_at dksX5_flies_1 10 rfl rfl)
theorem dX5_flies_33 : decode cX5_flies 33 = .ok (.getfield 7, 3) := dk_180 0 7 (dk_at dksX5_flies_1 11 rfl rfl)
theorem dX5_flies_36 : decode cX5_flies 36 = .ok (.bipush 110, 2) := dk_16 110 (dk_at dksX5_flies_1 14 rfl rfl)
theorem dX5_flies_38 : decode cX5_flies 38 = .ok (.iload 4, 2) := dk_21 4 (dk_at dksX5_flies_1 16 rfl rfl)
theorem dX5_flies_40 : decode cX5_flies 40 = .ok (.iadd, 1) := dk_96 (dk_at dksX5_flies_1 18 rfl rfl)
theorem dX5_flies_41 : decode cX5_flies 41 = .ok (.iaload, 1) := dk_46 (dk_at dksX5_flies_1 19 rfl rfl)
theorem dX5_flies_42 : decode cX5_flies 42 = .ok (.ifCond .le 20, 3) := dk_158 0 20 (dk_at dksX5_flies_1 20 rfl rfl)
theorem dX5_flies_45 : decode cX5_flies 45 = .ok (.aload_n 0, 1) := dk_42 (dk_at dksX5_flies_1 23 rfl rfl)
theorem dX5_flies_46 : decode cX5_flies 46 = .ok (.getfield 7, 3) := dk_180 0 7 (dk_at dksX5_flies_2 0 rfl rfl)
theorem dX5_flies_49 : decode cX5_flies 49 = .ok (.bipush 110, 2) := dk_16 110 (dk_at dksX5_flies_2 3 rfl rfl)
theorem dX5_flies_51 : decode cX5_flies 51 = .ok (.iload 4, 2) := dk_21 4 (dk_at dksX5_flies_2 5 rfl rfl)
theorem dX5_flies_53 : decode cX5_flies 53 = .ok (.iadd, 1) := dk_96 (dk_at dksX5_flies_2 7 rfl rfl)
theorem dX5_flies_54 : decode cX5_flies 54 = .ok (.dup2, 1) := dk_92 (dk_at dksX5_flies_2 8 rfl rfl)
theorem dX5_flies_55 : decode cX5_flies 55 = .ok (.iaload, 1) := dk_46 (dk_at dksX5_flies_2 9 rfl rfl)
theorem dX5_flies_56 : decode cX5_flies 56 = .ok (.iconst 1, 1) := dk_4 (dk_at dksX5_flies_2 10 rfl rfl)
theorem dX5_flies_57 : decode cX5_flies 57 = .ok (.isub, 1) := dk_100 (dk_at dksX5_flies_2 11 rfl rfl)
theorem dX5_flies_58 : decode cX5_flies 58 = .ok (.iastore, 1) := dk_79 (dk_at dksX5_flies_2 12 rfl rfl)
theorem dX5_flies_59 : decode cX5_flies 59 = .ok (.iinc 2 1, 3) := dk_132 2 1 (dk_at dksX5_flies_2 13 rfl rfl)
theorem dX5_flies_62 : decode cX5_flies 62 = .ok (.iinc 3 1, 3) := dk_132 3 1 (dk_at dksX5_flies_2 16 rfl rfl)
theorem dX5_flies_65 : decode cX5_flies 65 = .ok (.goto (-45), 3) := dk_167 255 211 (dk_at dksX5_flies_2 19 rfl rfl)
theorem dX5_flies_68 : decode cX5_flies 68 = .ok (.iload_n 2, 1) := dk_28 (dk_at dksX5_flies_2 22 rfl rfl)
theorem dX5_flies_69 : decode cX5_flies 69 = .ok (.ireturn, 1) := dk_172 (dk_at dksX5_flies_2 23 rfl rfl)
abbrev cX5_draw : ByteArray := prog_23_method_59_code
def yX5_draw : MethodName := ⟨RX5, "draw", "(I)I"⟩
def dkwX5_draw_1 : List UInt8 := [17, 1, 208, 46, 17, 0, 181, 104, 16, 101, 96, 17, 117, 77, 112, 79, 28, 172]
abbrev dktX5_draw_1 : List UInt8 := dkwX5_draw_1 ++ []
def dkwX5_draw_0 : List UInt8 := [42, 180, 0, 7, 17, 1, 208, 46, 27, 112, 61, 42, 180, 0, 7, 17, 1, 208, 42, 180, 0, 7]
abbrev dktX5_draw_0 : List UInt8 := dkwX5_draw_0 ++ dktX5_draw_1
theorem dksX5_draw_0 : cX5_draw.data.toList.drop 0 = dktX5_draw_0 := by decide +kernel
theorem dksX5_draw_1 : cX5_draw.data.toList.drop 22 = dktX5_draw_1 := dk_seg dksX5_draw_0 22 rfl rfl
theorem dX5_draw_0 : decode cX5_draw 0 = .ok (.aload_n 0, 1) := dk_42 (dk_at dksX5_draw_0 0 rfl rfl)
theorem dX5_draw_1 : decode cX5_draw 1 = .ok (.getfield 7, 3) := dk_180 0 7 (dk_at dksX5_draw_0 1 rfl rfl)
theorem dX5_draw_4 : decode cX5_draw 4 = .ok (.sipush 464, 3) := dk_17 1 208 (dk_at dksX5_draw_0 4 rfl rfl)
theorem dX5_draw_7 : decode cX5_draw 7 = .ok (.iaload, 1) := dk_46 (dk_at dksX5_draw_0 7 rfl rfl)
theorem dX5_draw_8 : decode cX5_draw 8 = .ok (.iload_n 1, 1) := dk_27 (dk_at dksX5_draw_0 8 rfl rfl)
theorem dX5_draw_9 : decode cX5_draw 9 = .ok (.irem, 1) := dk_112 (dk_at dksX5_draw_0 9 rfl rfl)
theorem dX5_draw_10 : decode cX5_draw 10 = .ok (.istore_n 2, 1) := dk_61 (dk_at dksX5_draw_0 10 rfl rfl)
theorem dX5_draw_11 : decode cX5_draw 11 = .ok (.aload_n 0, 1) := dk_42 (dk_at dksX5_draw_0 11 rfl rfl)
theorem dX5_draw_12 : decode cX5_draw 12 = .ok (.getfield 7, 3) := dk_180 0 7 (dk_at dksX5_draw_0 12 rfl rfl)
theorem dX5_draw_15 : decode cX5_draw 15 = .ok (.sipush 464, 3) := dk_17 1 208 (dk_at dksX5_draw_0 15 rfl rfl)
theorem dX5_draw_18 : decode cX5_draw 18 = .ok (.aload_n 0, 1) := dk_42 (dk_at dksX5_draw_0 18 rfl rfl)
theorem dX5_draw_19 : decode cX5_draw 19 = .ok (.getfield 7, 3) := dk_180 0 7 (dk_at dksX5_draw_0 19 rfl rfl)
theorem dX5_draw_22 : decode cX5_draw 22 = .ok (.sipush 464, 3) := dk_17 1 208 (dk_at dksX5_draw_1 0 rfl rfl)
theorem dX5_draw_25 : decode cX5_draw 25 = .ok (.iaload, 1) := dk_46 (dk_at dksX5_draw_1 3 rfl rfl)
theorem dX5_draw_26 : decode cX5_draw 26 = .ok (.sipush 181, 3) := dk_17 0 181 (dk_at dksX5_draw_1 4 rfl rfl)
theorem dX5_draw_29 : decode cX5_draw 29 = .ok (.imul, 1) := dk_104 (dk_at dksX5_draw_1 7 rfl rfl)
theorem dX5_draw_30 : decode cX5_draw 30 = .ok (.bipush 101, 2) := dk_16 101 (dk_at dksX5_draw_1 8 rfl rfl)
theorem dX5_draw_32 : decode cX5_draw 32 = .ok (.iadd, 1) := dk_96 (dk_at dksX5_draw_1 10 rfl rfl)
theorem dX5_draw_33 : decode cX5_draw 33 = .ok (.sipush 30029, 3) := dk_17 117 77 (dk_at dksX5_draw_1 11 rfl rfl)
theorem dX5_draw_36 : decode cX5_draw 36 = .ok (.irem, 1) := dk_112 (dk_at dksX5_draw_1 14 rfl rfl)
theorem dX5_draw_37 : decode cX5_draw 37 = .ok (.iastore, 1) := dk_79 (dk_at dksX5_draw_1 15 rfl rfl)
theorem dX5_draw_38 : decode cX5_draw 38 = .ok (.iload_n 2, 1) := dk_28 (dk_at dksX5_draw_1 16 rfl rfl)
theorem dX5_draw_39 : decode cX5_draw 39 = .ok (.ireturn, 1) := dk_172 (dk_at dksX5_draw_1 17 rfl rfl)
abbrev cX5_played : ByteArray := prog_23_method_61_code
def yX5_played : MethodName := ⟨RX5, "played", "(I)I"⟩
def dkwX5_played_7 : List UInt8 := [54, 4, 167, 0, 3, 21, 4, 154, 0, 5, 28, 172, 132, 2, 1, 167, 255, 92, 2, 172]
abbrev dktX5_played_7 : List UInt8 := dkwX5_played_7 ++ []
def dkwX5_played_6 : List UInt8 := [54, 4, 167, 0, 27, 42, 42, 180, 0, 36, 29, 46, 182, 1, 111, 2, 159, 0, 7, 4, 167, 0, 4, 3]
abbrev dktX5_played_6 : List UInt8 := dkwX5_played_6 ++ dktX5_played_7
def dkwX5_played_5 : List UInt8 := [54, 4, 167, 0, 51, 42, 42, 180, 0, 36, 29, 46, 182, 1, 108, 2, 159, 0, 7, 4, 167, 0, 4, 3]
abbrev dktX5_played_5 : List UInt8 := dkwX5_played_5 ++ dktX5_played_6
def dkwX5_played_4 : List UInt8 := [180, 0, 36, 29, 46, 42, 180, 0, 39, 29, 46, 182, 1, 105, 2, 159, 0, 7, 4, 167, 0, 4, 3]
abbrev dktX5_played_4 : List UInt8 := dkwX5_played_4 ++ dktX5_played_5
def dkwX5_played_3 : List UInt8 := [42, 42, 180, 0, 36, 29, 46, 42, 180, 0, 39, 29, 46, 182, 1, 102, 54, 4, 167, 0, 81, 42, 42]
abbrev dktX5_played_3 : List UInt8 := dkwX5_played_3 ++ dktX5_played_4
def dkwX5_played_2 : List UInt8 := [170, 0, 0, 0, 128, 0, 0, 0, 3, 0, 0, 0, 6, 0, 0, 0, 29, 0, 0, 0, 50, 0, 0, 0, 80, 0, 0, 0, 104]
abbrev dktX5_played_2 : List UInt8 := dkwX5_played_2 ++ dktX5_played_3
def dkwX5_played_1 : List UInt8 := [180, 0, 27, 27, 46, 162, 0, 160, 16, 24, 27, 104, 28, 96, 62, 4, 54, 4, 42, 180, 0, 30, 29, 46]
abbrev dktX5_played_1 : List UInt8 := dkwX5_played_1 ++ dktX5_played_2
def dkwX5_played_0 : List UInt8 := [27, 3, 42, 180, 0, 7, 4, 46, 4, 100, 184, 0, 110, 154, 0, 6, 16, 254, 172, 3, 61, 28, 42]
abbrev dktX5_played_0 : List UInt8 := dkwX5_played_0 ++ dktX5_played_1
theorem dksX5_played_0 : cX5_played.data.toList.drop 0 = dktX5_played_0 := by decide +kernel
theorem dksX5_played_1 : cX5_played.data.toList.drop 23 = dktX5_played_1 := dk_seg dksX5_played_0 23 rfl rfl
theorem dksX5_played_2 : cX5_played.data.toList.drop 47 = dktX5_played_2 := dk_seg dksX5_played_1 24 rfl rfl
theorem dksX5_played_3 : cX5_played.data.toList.drop 76 = dktX5_played_3 := dk_seg dksX5_played_2 29 rfl rfl
theorem dksX5_played_4 : cX5_played.data.toList.drop 99 = dktX5_played_4 := dk_seg dksX5_played_3 23 rfl rfl
theorem dksX5_played_5 : cX5_played.data.toList.drop 122 = dktX5_played_5 := dk_seg dksX5_played_4 23 rfl rfl
theorem dksX5_played_6 : cX5_played.data.toList.drop 146 = dktX5_played_6 := dk_seg dksX5_played_5 24 rfl rfl
theorem dksX5_played_7 : cX5_played.data.toList.drop 170 = dktX5_played_7 := dk_seg dksX5_played_6 24 rfl rfl
theorem dX5_played_0 : decode cX5_played 0 = .ok (.iload_n 1, 1) := dk_27 (dk_at dksX5_played_0 0 rfl rfl)
theorem dX5_played_1 : decode cX5_played 1 = .ok (.iconst 0, 1) := dk_3 (dk_at dksX5_played_0 1 rfl rfl)
theorem dX5_played_2 : decode cX5_played 2 = .ok (.aload_n 0, 1) := dk_42 (dk_at dksX5_played_0 2 rfl rfl)
theorem dX5_played_3 : decode cX5_played 3 = .ok (.getfield 7, 3) := dk_180 0 7 (dk_at dksX5_played_0 3 rfl rfl)
theorem dX5_played_6 : decode cX5_played 6 = .ok (.iconst 1, 1) := dk_4 (dk_at dksX5_played_0 6 rfl rfl)
theorem dX5_played_7 : decode cX5_played 7 = .ok (.iaload, 1) := dk_46 (dk_at dksX5_played_0 7 rfl rfl)
theorem dX5_played_8 : decode cX5_played 8 = .ok (.iconst 1, 1) := dk_4 (dk_at dksX5_played_0 8 rfl rfl)
theorem dX5_played_9 : decode cX5_played 9 = .ok (.isub, 1) := dk_100 (dk_at dksX5_played_0 9 rfl rfl)
theorem dX5_played_10 : decode cX5_played 10 = .ok (.invokestatic 110, 3) := dk_184 0 110 (dk_at dksX5_played_0 10 rfl rfl)
theorem dX5_played_13 : decode cX5_played 13 = .ok (.ifCond .ne 6, 3) := dk_154 0 6 (dk_at dksX5_played_0 13 rfl rfl)
theorem dX5_played_16 : decode cX5_played 16 = .ok (.bipush (-2), 2) := dk_16 254 (dk_at dksX5_played_0 16 rfl rfl)
theorem dX5_played_18 : decode cX5_played 18 = .ok (.ireturn, 1) := dk_172 (dk_at dksX5_played_0 18 rfl rfl)
theorem dX5_played_19 : decode cX5_played 19 = .ok (.iconst 0, 1) := dk_3 (dk_at dksX5_played_0 19 rfl rfl)
theorem dX5_played_20 : decode cX5_played 20 = .ok (.istore_n 2, 1) := dk_61 (dk_at dksX5_played_0 20 rfl rfl)
theorem dX5_played_21 : decode cX5_played 21 = .ok (.iload_n 2, 1) := dk_28 (dk_at dksX5_played_0 21 rfl rfl)
theorem dX5_played_22 : decode cX5_played 22 = .ok (.aload_n 0, 1) := dk_42 (dk_at dksX5_played_0 22 rfl rfl)
theorem dX5_played_23 : decode cX5_played 23 = .ok (.getfield 27, 3) := dk_180 0 27 (dk_at dksX5_played_1 0 rfl rfl)
theorem dX5_played_26 : decode cX5_played 26 = .ok (.iload_n 1, 1) := dk_27 (dk_at dksX5_played_1 3 rfl rfl)
theorem dX5_played_27 : decode cX5_played 27 = .ok (.iaload, 1) := dk_46 (dk_at dksX5_played_1 4 rfl rfl)
theorem dX5_played_28 : decode cX5_played 28 = .ok (.if_icmp .ge 160, 3) := dk_162 0 160 (dk_at dksX5_played_1 5 rfl rfl)
theorem dX5_played_31 : decode cX5_played 31 = .ok (.bipush 24, 2) := dk_16 24 (dk_at dksX5_played_1 8 rfl rfl)
theorem dX5_played_33 : decode cX5_played 33 = .ok (.iload_n 1, 1) := dk_27 (dk_at dksX5_played_1 10 rfl rfl)
theorem dX5_played_34 : decode cX5_played 34 = .ok (.imul, 1) := dk_104 (dk_at dksX5_played_1 11 rfl rfl)
theorem dX5_played_35 : decode cX5_played 35 = .ok (.iload_n 2, 1) := dk_28 (dk_at dksX5_played_1 12 rfl rfl)
theorem dX5_played_36 : decode cX5_played 36 = .ok (.iadd, 1) := dk_96 (dk_at dksX5_played_1 13 rfl rfl)
theorem dX5_played_37 : decode cX5_played 37 = .ok (.istore_n 3, 1) := dk_62 (dk_at dksX5_played_1 14 rfl rfl)
theorem dX5_played_38 : decode cX5_played 38 = .ok (.iconst 1, 1) := dk_4 (dk_at dksX5_played_1 15 rfl rfl)
theorem dX5_played_39 : decode cX5_played 39 = .ok (.istore 4, 2) := dk_54 4 (dk_at dksX5_played_1 16 rfl rfl)
theorem dX5_played_41 : decode cX5_played 41 = .ok (.aload_n 0, 1) := dk_42 (dk_at dksX5_played_1 18 rfl rfl)
theorem dX5_played_42 : decode cX5_played 42 = .ok (.getfield 30, 3) := dk_180 0 30 (dk_at dksX5_played_1 19 rfl rfl)
theorem dX5_played_45 : decode cX5_played 45 = .ok (.iload_n 3, 1) := dk_29 (dk_at dksX5_played_1 22 rfl rfl)
theorem dX5_played_46 : decode cX5_played 46 = .ok (.iaload, 1) := dk_46 (dk_at dksX5_played_1 23 rfl rfl)
theorem dX5_played_47 : decode cX5_played 47 = .ok (.tableswitch 128 3 6 #[29, 50, 80, 104], 29) := by decide +kernel
theorem dX5_played_76 : decode cX5_played 76 = .ok (.aload_n 0, 1) := dk_42 (dk_at dksX5_played_3 0 rfl rfl)
theorem dX5_played_77 : decode cX5_played 77 = .ok (.aload_n 0, 1) := dk_42 (dk_at dksX5_played_3 1 rfl rfl)
theorem dX5_played_78 : decode cX5_played 78 = .ok (.getfield 36, 3) := dk_180 0 36 (dk_at dksX5_played_3 2 rfl rfl)
theorem dX5_played_81 : decode cX5_played 81 = .ok (.iload_n 3, 1) := dk_29 (dk_at dksX5_played_3 5 rfl rfl)
theorem dX5_played_82 : decode cX5_played 82 = .ok (.iaload, 1) := dk_46 (dk_at dksX5_played_3 6 rfl rfl)
theorem dX5_played_83 : decode cX5_played 83 = .ok (.aload_n 0, 1) := dk_42 (dk_at dksX5_played_3 7 rfl rfl)
theorem dX5_played_84 : decode cX5_played 84 = .ok (.getfield 39, 3) := dk_180 0 39 (dk_at dksX5_played_3 8 rfl rfl)
theorem dX5_played_87 : decode cX5_played 87 = .ok (.iload_n 3, 1) := dk_29 (dk_at dksX5_played_3 11 rfl rfl)
theorem dX5_played_88 : decode cX5_played 88 = .ok (.iaload, 1) := dk_46 (dk_at dksX5_played_3 12 rfl rfl)
theorem dX5_played_89 : decode cX5_played 89 = .ok (.invokevirtual 358, 3) := dk_182 1 102 (dk_at dksX5_played_3 13 rfl rfl)
theorem dX5_played_92 : decode cX5_played 92 = .ok (.istore 4, 2) := dk_54 4 (dk_at dksX5_played_3 16 rfl rfl)
theorem dX5_played_94 : decode cX5_played 94 = .ok (.goto 81, 3) := dk_167 0 81 (dk_at dksX5_played_3 18 rfl rfl)
theorem dX5_played_97 : decode cX5_played 97 = .ok (.aload_n 0, 1) := dk_42 (dk_at dksX5_played_3 21 rfl rfl)
theorem dX5_played_98 : decode cX5_played 98 = .ok (.aload_n 0, 1) := dk_42 (dk_at dksX5_played_3 22 rfl rfl)
theorem dX5_played_99 : decode cX5_played 99 = .ok (.getfield 36, 3) := dk_180 0 36 (dk_at dksX5_played_4 0 rfl rfl)
theorem dX5_played_102 : decode cX5_played 102 = .ok (.iload_n 3, 1) := dk_29 (dk_at dksX5_played_4 3 rfl rfl)
theorem dX5_played_103 : decode cX5_played 103 = .ok (.iaload, 1) := dk_46 (dk_at dksX5_played_4 4 rfl rfl)
theorem dX5_played_104 : decode cX5_played 104 = .ok (.aload_n 0, 1) := dk_42 (dk_at dksX5_played_4 5 rfl rfl)
theorem dX5_played_105 : decode cX5_played 105 = .ok (.getfield 39, 3) := dk_180 0 39 (dk_at dksX5_played_4 6 rfl rfl)
theorem dX5_played_108 : decode cX5_played 108 = .ok (.iload_n 3, 1) := dk_29 (dk_at dksX5_played_4 9 rfl rfl)
theorem dX5_played_109 : decode cX5_played 109 = .ok (.iaload, 1) := dk_46 (dk_at dksX5_played_4 10 rfl rfl)
theorem dX5_played_110 : decode cX5_played 110 = .ok (.invokevirtual 361, 3) := dk_182 1 105 (dk_at dksX5_played_4 11 rfl rfl)
theorem dX5_played_113 : decode cX5_played 113 = .ok (.iconst (-1), 1) := dk_2 (dk_at dksX5_played_4 14 rfl rfl)
theorem dX5_played_114 : decode cX5_played 114 = .ok (.if_icmp .eq 7, 3) := dk_159 0 7 (dk_at dksX5_played_4 15 rfl rfl)
theorem dX5_played_117 : decode cX5_played 117 = .ok (.iconst 1, 1) := dk_4 (dk_at dksX5_played_4 18 rfl rfl)
theorem dX5_played_118 : decode cX5_played 118 = .ok (.goto 4, 3) := dk_167 0 4 (dk_at dksX5_played_4 19 rfl rfl)
theorem dX5_played_121 : decode cX5_played 121 = .ok (.iconst 0, 1) := dk_3 (dk_at dksX5_played_4 22 rfl rfl)
theorem dX5_played_122 : decode cX5_played 122 = .ok (.istore 4, 2) := dk_54 4 (dk_at dksX5_played_5 0 rfl rfl)
theorem dX5_played_124 : decode cX5_played 124 = .ok (.goto 51, 3) := dk_167 0 51 (dk_at dksX5_played_5 2 rfl rfl)
theorem dX5_played_127 : decode cX5_played 127 = .ok (.aload_n 0, 1) := dk_42 (dk_at dksX5_played_5 5 rfl rfl)
theorem dX5_played_128 : decode cX5_played 128 = .ok (.aload_n 0, 1) := dk_42 (dk_at dksX5_played_5 6 rfl rfl)
theorem dX5_played_129 : decode cX5_played 129 = .ok (.getfield 36, 3) := dk_180 0 36 (dk_at dksX5_played_5 7 rfl rfl)
theorem dX5_played_132 : decode cX5_played 132 = .ok (.iload_n 3, 1) := dk_29 (dk_at dksX5_played_5 10 rfl rfl)
theorem dX5_played_133 : decode cX5_played 133 = .ok (.iaload, 1) := dk_46 (dk_at dksX5_played_5 11 rfl rfl)
theorem dX5_played_134 : decode cX5_played 134 = .ok (.invokevirtual 364, 3) := dk_182 1 108 (dk_at dksX5_played_5 12 rfl rfl)
theorem dX5_played_137 : decode cX5_played 137 = .ok (.iconst (-1), 1) := dk_2 (dk_at dksX5_played_5 15 rfl rfl)
theorem dX5_played_138 : decode cX5_played 138 = .ok (.if_icmp .eq 7, 3) := dk_159 0 7 (dk_at dksX5_played_5 16 rfl rfl)
theorem dX5_played_141 : decode cX5_played 141 = .ok (.iconst 1, 1) := dk_4 (dk_at dksX5_played_5 19 rfl rfl)
theorem dX5_played_142 : decode cX5_played 142 = .ok (.goto 4, 3) := dk_167 0 4 (dk_at dksX5_played_5 20 rfl rfl)
theorem dX5_played_145 : decode cX5_played 145 = .ok (.iconst 0, 1) := dk_3 (dk_at dksX5_played_5 23 rfl rfl)
theorem dX5_played_146 : decode cX5_played 146 = .ok (.istore 4, 2) := dk_54 4 (dk_at dksX5_played_6 0 rfl rfl)
theorem dX5_played_148 : decode cX5_played 148 = .ok (.goto 27, 3) := dk_167 0 27 (dk_at dksX5_played_6 2 rfl rfl)
theorem dX5_played_151 : decode cX5_played 151 = .ok (.aload_n 0, 1) := dk_42 (dk_at dksX5_played_6 5 rfl rfl)
theorem dX5_played_152 : decode cX5_played 152 = .ok (.aload_n 0, 1) := dk_42 (dk_at dksX5_played_6 6 rfl rfl)
theorem dX5_played_153 : decode cX5_played 153 = .ok (.getfield 36, 3) := dk_180 0 36 (dk_at dksX5_played_6 7 rfl rfl)
theorem dX5_played_156 : decode cX5_played 156 = .ok (.iload_n 3, 1) := dk_29 (dk_at dksX5_played_6 10 rfl rfl)
theorem dX5_played_157 : decode cX5_played 157 = .ok (.iaload, 1) := dk_46 (dk_at dksX5_played_6 11 rfl rfl)
theorem dX5_played_158 : decode cX5_played 158 = .ok (.invokevirtual 367, 3) := dk_182 1 111 (dk_at dksX5_played_6 12 rfl rfl)
theorem dX5_played_161 : decode cX5_played 161 = .ok (.iconst (-1), 1) := dk_2 (dk_at dksX5_played_6 15 rfl rfl)
theorem dX5_played_162 : decode cX5_played 162 = .ok (.if_icmp .eq 7, 3) := dk_159 0 7 (dk_at dksX5_played_6 16 rfl rfl)
theorem dX5_played_165 : decode cX5_played 165 = .ok (.iconst 1, 1) := dk_4 (dk_at dksX5_played_6 19 rfl rfl)
theorem dX5_played_166 : decode cX5_played 166 = .ok (.goto 4, 3) := dk_167 0 4 (dk_at dksX5_played_6 20 rfl rfl)
theorem dX5_played_169 : decode cX5_played 169 = .ok (.iconst 0, 1) := dk_3 (dk_at dksX5_played_6 23 rfl rfl)
theorem dX5_played_170 : decode cX5_played 170 = .ok (.istore 4, 2) := dk_54 4 (dk_at dksX5_played_7 0 rfl rfl)
theorem dX5_played_172 : decode cX5_played 172 = .ok (.goto 3, 3) := dk_167 0 3 (dk_at dksX5_played_7 2 rfl rfl)
theorem dX5_played_175 : decode cX5_played 175 = .ok (.iload 4, 2) := dk_21 4 (dk_at dksX5_played_7 5 rfl rfl)
theorem dX5_played_177 : decode cX5_played 177 = .ok (.ifCond .ne 5, 3) := dk_154 0 5 (dk_at dksX5_played_7 7 rfl rfl)
theorem dX5_played_180 : decode cX5_played 180 = .ok (.iload_n 2, 1) := dk_28 (dk_at dksX5_played_7 10 rfl rfl)
theorem dX5_played_181 : decode cX5_played 181 = .ok (.ireturn, 1) := dk_172 (dk_at dksX5_played_7 11 rfl rfl)
theorem dX5_played_182 : decode cX5_played 182 = .ok (.iinc 2 1, 3) := dk_132 2 1 (dk_at dksX5_played_7 12 rfl rfl)
theorem dX5_played_185 : decode cX5_played 185 = .ok (.goto (-164), 3) := dk_167 255 92 (dk_at dksX5_played_7 15 rfl rfl)
theorem dX5_played_188 : decode cX5_played 188 = .ok (.iconst (-1), 1) := dk_2 (dk_at dksX5_played_7 18 rfl rfl)
theorem dX5_played_189 : decode cX5_played 189 = .ok (.ireturn, 1) := dk_172 (dk_at dksX5_played_7 19 rfl rfl)
abbrev cX5_of : ByteArray := prog_23_method_62_code
def yX5_of : MethodName := ⟨RX5, "of", "(II)I"⟩
def dkwX5_of_5 : List UInt8 := [172, 42, 27, 4, 182, 1, 81, 172, 16, 254, 172]
abbrev dktX5_of_5 : List UInt8 := dkwX5_of_5 ++ []
def dkwX5_of_4 : List UInt8 := [46, 172, 42, 180, 0, 7, 16, 123, 27, 96, 46, 172, 42, 27, 182, 1, 75, 172, 42, 27, 3, 182, 1, 81]
abbrev dktX5_of_4 : List UInt8 := dkwX5_of_4 ++ dktX5_of_5
def dkwX5_of_3 : List UInt8 := [46, 172, 42, 180, 0, 7, 16, 10, 6, 27, 104, 96, 5, 96, 46, 172, 42, 180, 0, 7, 16, 114, 27, 96]
abbrev dktX5_of_3 : List UInt8 := dkwX5_of_3 ++ dktX5_of_4
def dkwX5_of_2 : List UInt8 := [42, 180, 0, 7, 16, 10, 6, 27, 104, 96, 46, 172, 42, 180, 0, 7, 16, 10, 6, 27, 104, 96, 4, 96]
abbrev dktX5_of_2 : List UInt8 := dkwX5_of_2 ++ dktX5_of_3
def dkwX5_of_1 : List UInt8 := [170, 0, 0, 0, 0, 0, 0, 128, 0, 0, 0, 0, 0, 0, 0, 7, 0, 0, 0, 48, 0, 0, 0, 60, 0, 0, 0, 74, 0, 0, 0, 88, 0, 0, 0, 98, 0, 0, 0, 108, 0, 0, 0, 114, 0, 0, 0, 121]
abbrev dktX5_of_1 : List UInt8 := dkwX5_of_1 ++ dktX5_of_2
def dkwX5_of_0 : List UInt8 := [42, 27, 182, 1, 87, 154, 0, 6, 16, 254, 172, 42, 182, 1, 93, 28]
abbrev dktX5_of_0 : List UInt8 := dkwX5_of_0 ++ dktX5_of_1
theorem dksX5_of_0 : cX5_of.data.toList.drop 0 = dktX5_of_0 := by decide +kernel
theorem dksX5_of_1 : cX5_of.data.toList.drop 16 = dktX5_of_1 := dk_seg dksX5_of_0 16 rfl rfl
theorem dksX5_of_2 : cX5_of.data.toList.drop 64 = dktX5_of_2 := dk_seg dksX5_of_1 48 rfl rfl
theorem dksX5_of_3 : cX5_of.data.toList.drop 88 = dktX5_of_3 := dk_seg dksX5_of_2 24 rfl rfl
theorem dksX5_of_4 : cX5_of.data.toList.drop 112 = dktX5_of_4 := dk_seg dksX5_of_3 24 rfl rfl
theorem dksX5_of_5 : cX5_of.data.toList.drop 136 = dktX5_of_5 := dk_seg dksX5_of_4 24 rfl rfl
theorem dX5_of_0 : decode cX5_of 0 = .ok (.aload_n 0, 1) := dk_42 (dk_at dksX5_of_0 0 rfl rfl)
theorem dX5_of_1 : decode cX5_of 1 = .ok (.iload_n 1, 1) := dk_27 (dk_at dksX5_of_0 1 rfl rfl)
theorem dX5_of_2 : decode cX5_of 2 = .ok (.invokevirtual 343, 3) := dk_182 1 87 (dk_at dksX5_of_0 2 rfl rfl)
theorem dX5_of_5 : decode cX5_of 5 = .ok (.ifCond .ne 6, 3) := dk_154 0 6 (dk_at dksX5_of_0 5 rfl rfl)
theorem dX5_of_8 : decode cX5_of 8 = .ok (.bipush (-2), 2) := dk_16 254 (dk_at dksX5_of_0 8 rfl rfl)
theorem dX5_of_10 : decode cX5_of 10 = .ok (.ireturn, 1) := dk_172 (dk_at dksX5_of_0 10 rfl rfl)
theorem dX5_of_11 : decode cX5_of 11 = .ok (.aload_n 0, 1) := dk_42 (dk_at dksX5_of_0 11 rfl rfl)
theorem dX5_of_12 : decode cX5_of 12 = .ok (.invokevirtual 349, 3) := dk_182 1 93 (dk_at dksX5_of_0 12 rfl rfl)
theorem dX5_of_15 : decode cX5_of 15 = .ok (.iload_n 2, 1) := dk_28 (dk_at dksX5_of_0 15 rfl rfl)
theorem dX5_of_16 : decode cX5_of 16 = .ok (.tableswitch 128 0 7 #[48, 60, 74, 88, 98, 108, 114, 121], 48) := by decide +kernel
theorem dX5_of_64 : decode cX5_of 64 = .ok (.aload_n 0, 1) := dk_42 (dk_at dksX5_of_2 0 rfl rfl)
theorem dX5_of_65 : decode cX5_of 65 = .ok (.getfield 7, 3) := dk_180 0 7 (dk_at dksX5_of_2 1 rfl rfl)
theorem dX5_of_68 : decode cX5_of 68 = .ok (.bipush 10, 2) := dk_16 10 (dk_at dksX5_of_2 4 rfl rfl)
theorem dX5_of_70 : decode cX5_of 70 = .ok (.iconst 3, 1) := dk_6 (dk_at dksX5_of_2 6 rfl rfl)
theorem dX5_of_71 : decode cX5_of 71 = .ok (.iload_n 1, 1) := dk_27 (dk_at dksX5_of_2 7 rfl rfl)
theorem dX5_of_72 : decode cX5_of 72 = .ok (.imul, 1) := dk_104 (dk_at dksX5_of_2 8 rfl rfl)
theorem dX5_of_73 : decode cX5_of 73 = .ok (.iadd, 1) := dk_96 (dk_at dksX5_of_2 9 rfl rfl)
theorem dX5_of_74 : decode cX5_of 74 = .ok (.iaload, 1) := dk_46 (dk_at dksX5_of_2 10 rfl rfl)
theorem dX5_of_75 : decode cX5_of 75 = .ok (.ireturn, 1) := dk_172 (dk_at dksX5_of_2 11 rfl rfl)
theorem dX5_of_76 : decode cX5_of 76 = .ok (.aload_n 0, 1) := dk_42 (dk_at dksX5_of_2 12 rfl rfl)
theorem dX5_of_77 : decode cX5_of 77 = .ok (.getfield 7, 3) := dk_180 0 7 (dk_at dksX5_of_2 13 rfl rfl)
theorem dX5_of_80 : decode cX5_of 80 = .ok (.bipush 10, 2) := dk_16 10 (dk_at dksX5_of_2 16 rfl rfl)
theorem dX5_of_82 : decode cX5_of 82 = .ok (.iconst 3, 1) := dk_6 (dk_at dksX5_of_2 18 rfl rfl)
theorem dX5_of_83 : decode cX5_of 83 = .ok (.iload_n 1, 1) := dk_27 (dk_at dksX5_of_2 19 rfl rfl)
theorem dX5_of_84 : decode cX5_of 84 = .ok (.imul, 1) := dk_104 (dk_at dksX5_of_2 20 rfl rfl)
theorem dX5_of_85 : decode cX5_of 85 = .ok (.iadd, 1) := dk_96 (dk_at dksX5_of_2 21 rfl rfl)
theorem dX5_of_86 : decode cX5_of 86 = .ok (.iconst 1, 1) := dk_4 (dk_at dksX5_of_2 22 rfl rfl)
theorem dX5_of_87 : decode cX5_of 87 = .ok (.iadd, 1) := dk_96 (dk_at dksX5_of_2 23 rfl rfl)
theorem dX5_of_88 : decode cX5_of 88 = .ok (.iaload, 1) := dk_46 (dk_at dksX5_of_3 0 rfl rfl)
theorem dX5_of_89 : decode cX5_of 89 = .ok (.ireturn, 1) := dk_172 (dk_at dksX5_of_3 1 rfl rfl)
theorem dX5_of_90 : decode cX5_of 90 = .ok (.aload_n 0, 1) := dk_42 (dk_at dksX5_of_3 2 rfl rfl)
theorem dX5_of_91 : decode cX5_of 91 = .ok (.getfield 7, 3) := dk_180 0 7 (dk_at dksX5_of_3 3 rfl rfl)
theorem dX5_of_94 : decode cX5_of 94 = .ok (.bipush 10, 2) := dk_16 10 (dk_at dksX5_of_3 6 rfl rfl)
theorem dX5_of_96 : decode cX5_of 96 = .ok (.iconst 3, 1) := dk_6 (dk_at dksX5_of_3 8 rfl rfl)
theorem dX5_of_97 : decode cX5_of 97 = .ok (.iload_n 1, 1) := dk_27 (dk_at dksX5_of_3 9 rfl rfl)
theorem dX5_of_98 : decode cX5_of 98 = .ok (.imul, 1) := dk_104 (dk_at dksX5_of_3 10 rfl rfl)
theorem dX5_of_99 : decode cX5_of 99 = .ok (.iadd, 1) := dk_96 (dk_at dksX5_of_3 11 rfl rfl)
theorem dX5_of_100 : decode cX5_of 100 = .ok (.iconst 2, 1) := dk_5 (dk_at dksX5_of_3 12 rfl rfl)
theorem dX5_of_101 : decode cX5_of 101 = .ok (.iadd, 1) := dk_96 (dk_at dksX5_of_3 13 rfl rfl)
theorem dX5_of_102 : decode cX5_of 102 = .ok (.iaload, 1) := dk_46 (dk_at dksX5_of_3 14 rfl rfl)
theorem dX5_of_103 : decode cX5_of 103 = .ok (.ireturn, 1) := dk_172 (dk_at dksX5_of_3 15 rfl rfl)
theorem dX5_of_104 : decode cX5_of 104 = .ok (.aload_n 0, 1) := dk_42 (dk_at dksX5_of_3 16 rfl rfl)
theorem dX5_of_105 : decode cX5_of 105 = .ok (.getfield 7, 3) := dk_180 0 7 (dk_at dksX5_of_3 17 rfl rfl)
theorem dX5_of_108 : decode cX5_of 108 = .ok (.bipush 114, 2) := dk_16 114 (dk_at dksX5_of_3 20 rfl rfl)
theorem dX5_of_110 : decode cX5_of 110 = .ok (.iload_n 1, 1) := dk_27 (dk_at dksX5_of_3 22 rfl rfl)
theorem dX5_of_111 : decode cX5_of 111 = .ok (.iadd, 1) := dk_96 (dk_at dksX5_of_3 23 rfl rfl)
theorem dX5_of_112 : decode cX5_of 112 = .ok (.iaload, 1) := dk_46 (dk_at dksX5_of_4 0 rfl rfl)
theorem dX5_of_113 : decode cX5_of 113 = .ok (.ireturn, 1) := dk_172 (dk_at dksX5_of_4 1 rfl rfl)
theorem dX5_of_114 : decode cX5_of 114 = .ok (.aload_n 0, 1) := dk_42 (dk_at dksX5_of_4 2 rfl rfl)
theorem dX5_of_115 : decode cX5_of 115 = .ok (.getfield 7, 3) := dk_180 0 7 (dk_at dksX5_of_4 3 rfl rfl)
theorem dX5_of_118 : decode cX5_of 118 = .ok (.bipush 123, 2) := dk_16 123 (dk_at dksX5_of_4 6 rfl rfl)
theorem dX5_of_120 : decode cX5_of 120 = .ok (.iload_n 1, 1) := dk_27 (dk_at dksX5_of_4 8 rfl rfl)
theorem dX5_of_121 : decode cX5_of 121 = .ok (.iadd, 1) := dk_96 (dk_at dksX5_of_4 9 rfl rfl)
theorem dX5_of_122 : decode cX5_of 122 = .ok (.iaload, 1) := dk_46 (dk_at dksX5_of_4 10 rfl rfl)
theorem dX5_of_123 : decode cX5_of 123 = .ok (.ireturn, 1) := dk_172 (dk_at dksX5_of_4 11 rfl rfl)
theorem dX5_of_124 : decode cX5_of 124 = .ok (.aload_n 0, 1) := dk_42 (dk_at dksX5_of_4 12 rfl rfl)
theorem dX5_of_125 : decode cX5_of 125 = .ok (.iload_n 1, 1) := dk_27 (dk_at dksX5_of_4 13 rfl rfl)
theorem dX5_of_126 : decode cX5_of 126 = .ok (.invokevirtual 331, 3) := dk_182 1 75 (dk_at dksX5_of_4 14 rfl rfl)
theorem dX5_of_129 : decode cX5_of 129 = .ok (.ireturn, 1) := dk_172 (dk_at dksX5_of_4 17 rfl rfl)
theorem dX5_of_130 : decode cX5_of 130 = .ok (.aload_n 0, 1) := dk_42 (dk_at dksX5_of_4 18 rfl rfl)
theorem dX5_of_131 : decode cX5_of 131 = .ok (.iload_n 1, 1) := dk_27 (dk_at dksX5_of_4 19 rfl rfl)
theorem dX5_of_132 : decode cX5_of 132 = .ok (.iconst 0, 1) := dk_3 (dk_at dksX5_of_4 20 rfl rfl)
theorem dX5_of_133 : decode cX5_of 133 = .ok (.invokevirtual 337, 3) := dk_182 1 81 (dk_at dksX5_of_4 21 rfl rfl)
theorem dX5_of_136 : decode cX5_of 136 = .ok (.ireturn, 1) := dk_172 (dk_at dksX5_of_5 0 rfl rfl)
theorem dX5_of_137 : decode cX5_of 137 = .ok (.aload_n 0, 1) := dk_42 (dk_at dksX5_of_5 1 rfl rfl)
theorem dX5_of_138 : decode cX5_of 138 = .ok (.iload_n 1, 1) := dk_27 (dk_at dksX5_of_5 2 rfl rfl)
theorem dX5_of_139 : decode cX5_of 139 = .ok (.iconst 1, 1) := dk_4 (dk_at dksX5_of_5 3 rfl rfl)
theorem dX5_of_140 : decode cX5_of 140 = .ok (.invokevirtual 337, 3) := dk_182 1 81 (dk_at dksX5_of_5 4 rfl rfl)
theorem dX5_of_143 : decode cX5_of 143 = .ok (.ireturn, 1) := dk_172 (dk_at dksX5_of_5 7 rfl rfl)
theorem dX5_of_144 : decode cX5_of 144 = .ok (.bipush (-2), 2) := dk_16 254 (dk_at dksX5_of_5 8 rfl rfl)
theorem dX5_of_146 : decode cX5_of 146 = .ok (.ireturn, 1) := dk_172 (dk_at dksX5_of_5 10 rfl rfl)
abbrev cX5_written : ByteArray := prog_23_method_63_code
def yX5_written : MethodName := ⟨RX5, "written", "(II)I"⟩
def dkwX5_written_2 : List UInt8 := [7, 27, 104, 96, 28, 96, 46, 167, 0, 5, 16, 254, 172]
abbrev dktX5_written_2 : List UInt8 := dkwX5_written_2 ++ []
def dkwX5_written_1 : List UInt8 := [4, 100, 184, 0, 110, 153, 0, 29, 28, 3, 6, 184, 0, 110, 153, 0, 20, 42, 180, 0, 7, 17, 0, 133]
abbrev dktX5_written_1 : List UInt8 := dkwX5_written_1 ++ dktX5_written_2
def dkwX5_written_0 : List UInt8 := [27, 2, 160, 0, 12, 42, 180, 0, 7, 17, 0, 132, 46, 172, 27, 3, 42, 180, 0, 7, 17, 0, 132, 46]
abbrev dktX5_written_0 : List UInt8 := dkwX5_written_0 ++ dktX5_written_1
theorem dksX5_written_0 : cX5_written.data.toList.drop 0 = dktX5_written_0 := by decide +kernel
theorem dksX5_written_1 : cX5_written.data.toList.drop 24 = dktX5_written_1 := dk_seg dksX5_written_0 24 rfl rfl
theorem dksX5_written_2 : cX5_written.data.toList.drop 48 = dktX5_written_2 := dk_seg dksX5_written_1 24 rfl rfl
theorem dX5_written_0 : decode cX5_written 0 = .ok (.iload_n 1, 1) := dk_27 (dk_at dksX5_written_0 0 rfl rfl)
theorem dX5_written_1 : decode cX5_written 1 = .ok (.iconst (-1), 1) := dk_2 (dk_at dksX5_written_0 1 rfl rfl)
theorem dX5_written_2 : decode cX5_written 2 = .ok (.if_icmp .ne 12, 3) := dk_160 0 12 (dk_at dksX5_written_0 2 rfl rfl)
theorem dX5_written_5 : decode cX5_written 5 = .ok (.aload_n 0, 1) := dk_42 (dk_at dksX5_written_0 5 rfl rfl)
theorem dX5_written_6 : decode cX5_written 6 = .ok (.getfield 7, 3) := dk_180 0 7 (dk_at dksX5_written_0 6 rfl rfl)
theorem dX5_written_9 : decode cX5_written 9 = .ok (.sipush 132, 3) := dk_17 0 132 (dk_at dksX5_written_0 9 rfl rfl)
theorem dX5_written_12 : decode cX5_written 12 = .ok (.iaload, 1) := dk_46 (dk_at dksX5_written_0 12 rfl rfl)
theorem dX5_written_13 : decode cX5_written 13 = .ok (.ireturn, 1) := dk_172 (dk_at dksX5_written_0 13 rfl rfl)
theorem dX5_written_14 : decode cX5_written 14 = .ok (.iload_n 1, 1) := dk_27 (dk_at dksX5_written_0 14 rfl rfl)
theorem dX5_written_15 : decode cX5_written 15 = .ok (.iconst 0, 1) := dk_3 (dk_at dksX5_written_0 15 rfl rfl)
theorem dX5_written_16 : decode cX5_written 16 = .ok (.aload_n 0, 1) := dk_42 (dk_at dksX5_written_0 16 rfl rfl)
theorem dX5_written_17 : decode cX5_written 17 = .ok (.getfield 7, 3) := dk_180 0 7 (dk_at dksX5_written_0 17 rfl rfl)
theorem dX5_written_20 : decode cX5_written 20 = .ok (.sipush 132, 3) := dk_17 0 132 (dk_at dksX5_written_0 20 rfl rfl)
theorem dX5_written_23 : decode cX5_written 23 = .ok (.iaload, 1) := dk_46 (dk_at dksX5_written_0 23 rfl rfl)
theorem dX5_written_24 : decode cX5_written 24 = .ok (.iconst 1, 1) := dk_4 (dk_at dksX5_written_1 0 rfl rfl)
theorem dX5_written_25 : decode cX5_written 25 = .ok (.isub, 1) := dk_100 (dk_at dksX5_written_1 1 rfl rfl)
theorem dX5_written_26 : decode cX5_written 26 = .ok (.invokestatic 110, 3) := dk_184 0 110 (dk_at dksX5_written_1 2 rfl rfl)
theorem dX5_written_29 : decode cX5_written 29 = .ok (.ifCond .eq 29, 3) := dk_153 0 29 (dk_at dksX5_written_1 5 rfl rfl)
theorem dX5_written_32 : decode cX5_written 32 = .ok (.iload_n 2, 1) := dk_28 (dk_at dksX5_written_1 8 rfl rfl)
theorem dX5_written_33 : decode cX5_written 33 = .ok (.iconst 0, 1) := dk_3 (dk_at dksX5_written_1 9 rfl rfl)
theorem dX5_written_34 : decode cX5_written 34 = .ok (.iconst 3, 1) := dk_6 (dk_at dksX5_written_1 10 rfl rfl)
theorem dX5_written_35 : decode cX5_written 35 = .ok (.invokestatic 110, 3) := dk_184 0 110 (dk_at dksX5_written_1 11 rfl rfl)
theorem dX5_written_38 : decode cX5_written 38 = .ok (.ifCond .eq 20, 3) := dk_153 0 20 (dk_at dksX5_written_1 14 rfl rfl)
theorem dX5_written_41 : decode cX5_written 41 = .ok (.aload_n 0, 1) := dk_42 (dk_at dksX5_written_1 17 rfl rfl)
theorem dX5_written_42 : decode cX5_written 42 = .ok (.getfield 7, 3) := dk_180 0 7 (dk_at dksX5_written_1 18 rfl rfl)
theorem dX5_written_45 : decode cX5_written 45 = .ok (.sipush 133, 3) := dk_17 0 133 (dk_at dksX5_written_1 21 rfl rfl)
theorem dX5_written_48 : decode cX5_written 48 = .ok (.iconst 4, 1) := dk_7 (dk_at dksX5_written_2 0 rfl rfl)
theorem dX5_written_49 : decode cX5_written 49 = .ok (.iload_n 1, 1) := dk_27 (dk_at dksX5_written_2 1 rfl rfl)
theorem dX5_written_50 : decode cX5_written 50 = .ok (.imul, 1) := dk_104 (dk_at dksX5_written_2 2 rfl rfl)
theorem dX5_written_51 : decode cX5_written 51 = .ok (.iadd, 1) := dk_96 (dk_at dksX5_written_2 3 rfl rfl)
theorem dX5_written_52 : decode cX5_written 52 = .ok (.iload_n 2, 1) := dk_28 (dk_at dksX5_written_2 4 rfl rfl)
theorem dX5_written_53 : decode cX5_written 53 = .ok (.iadd, 1) := dk_96 (dk_at dksX5_written_2 5 rfl rfl)
theorem dX5_written_54 : decode cX5_written 54 = .ok (.iaload, 1) := dk_46 (dk_at dksX5_written_2 6 rfl rfl)
theorem dX5_written_55 : decode cX5_written 55 = .ok (.goto 5, 3) := dk_167 0 5 (dk_at dksX5_written_2 7 rfl rfl)
theorem dX5_written_58 : decode cX5_written 58 = .ok (.bipush (-2), 2) := dk_16 254 (dk_at dksX5_written_2 10 rfl rfl)
theorem dX5_written_60 : decode cX5_written 60 = .ok (.ireturn, 1) := dk_172 (dk_at dksX5_written_2 12 rfl rfl)
abbrev cX5_dent : ByteArray := prog_23_method_64_code
def yX5_dent : MethodName := ⟨RX5, "dent", "(II)I"⟩
def dkwX5_dent_2 : List UInt8 := [6, 27, 104, 96, 28, 96, 46, 167, 0, 6, 17, 216, 241, 172]
abbrev dktX5_dent_2 : List UInt8 := dkwX5_dent_2 ++ []
def dkwX5_dent_1 : List UInt8 := [4, 100, 184, 0, 110, 153, 0, 29, 28, 3, 5, 184, 0, 110, 153, 0, 20, 42, 180, 0, 7, 17, 1, 118]
abbrev dktX5_dent_1 : List UInt8 := dkwX5_dent_1 ++ dktX5_dent_2
def dkwX5_dent_0 : List UInt8 := [27, 2, 160, 0, 12, 42, 180, 0, 7, 17, 1, 117, 46, 172, 27, 3, 42, 180, 0, 7, 17, 1, 117, 46]
abbrev dktX5_dent_0 : List UInt8 := dkwX5_dent_0 ++ dktX5_dent_1
theorem dksX5_dent_0 : cX5_dent.data.toList.drop 0 = dktX5_dent_0 := by decide +kernel
theorem dksX5_dent_1 : cX5_dent.data.toList.drop 24 = dktX5_dent_1 := dk_seg dksX5_dent_0 24 rfl rfl
theorem dksX5_dent_2 : cX5_dent.data.toList.drop 48 = dktX5_dent_2 := dk_seg dksX5_dent_1 24 rfl rfl
theorem dX5_dent_0 : decode cX5_dent 0 = .ok (.iload_n 1, 1) := dk_27 (dk_at dksX5_dent_0 0 rfl rfl)
theorem dX5_dent_1 : decode cX5_dent 1 = .ok (.iconst (-1), 1) := dk_2 (dk_at dksX5_dent_0 1 rfl rfl)
theorem dX5_dent_2 : decode cX5_dent 2 = .ok (.if_icmp .ne 12, 3) := dk_160 0 12 (dk_at dksX5_dent_0 2 rfl rfl)
theorem dX5_dent_5 : decode cX5_dent 5 = .ok (.aload_n 0, 1) := dk_42 (dk_at dksX5_dent_0 5 rfl rfl)
theorem dX5_dent_6 : decode cX5_dent 6 = .ok (.getfield 7, 3) := dk_180 0 7 (dk_at dksX5_dent_0 6 rfl rfl)
theorem dX5_dent_9 : decode cX5_dent 9 = .ok (.sipush 373, 3) := dk_17 1 117 (dk_at dksX5_dent_0 9 rfl rfl)
theorem dX5_dent_12 : decode cX5_dent 12 = .ok (.iaload, 1) := dk_46 (dk_at dksX5_dent_0 12 rfl rfl)
theorem dX5_dent_13 : decode cX5_dent 13 = .ok (.ireturn, 1) := dk_172 (dk_at dksX5_dent_0 13 rfl rfl)
theorem dX5_dent_14 : decode cX5_dent 14 = .ok (.iload_n 1, 1) := dk_27 (dk_at dksX5_dent_0 14 rfl rfl)
theorem dX5_dent_15 : decode cX5_dent 15 = .ok (.iconst 0, 1) := dk_3 (dk_at dksX5_dent_0 15 rfl rfl)
theorem dX5_dent_16 : decode cX5_dent 16 = .ok (.aload_n 0, 1) := dk_42 (dk_at dksX5_dent_0 16 rfl rfl)
theorem dX5_dent_17 : decode cX5_dent 17 = .ok (.getfield 7, 3) := dk_180 0 7 (dk_at dksX5_dent_0 17 rfl rfl)
theorem dX5_dent_20 : decode cX5_dent 20 = .ok (.sipush 373, 3) := dk_17 1 117 (dk_at dksX5_dent_0 20 rfl rfl)
theorem dX5_dent_23 : decode cX5_dent 23 = .ok (.iaload, 1) := dk_46 (dk_at dksX5_dent_0 23 rfl rfl)
theorem dX5_dent_24 : decode cX5_dent 24 = .ok (.iconst 1, 1) := dk_4 (dk_at dksX5_dent_1 0 rfl rfl)
theorem dX5_dent_25 : decode cX5_dent 25 = .ok (.isub, 1) := dk_100 (dk_at dksX5_dent_1 1 rfl rfl)
theorem dX5_dent_26 : decode cX5_dent 26 = .ok (.invokestatic 110, 3) := dk_184 0 110 (dk_at dksX5_dent_1 2 rfl rfl)
theorem dX5_dent_29 : decode cX5_dent 29 = .ok (.ifCond .eq 29, 3) := dk_153 0 29 (dk_at dksX5_dent_1 5 rfl rfl)
theorem dX5_dent_32 : decode cX5_dent 32 = .ok (.iload_n 2, 1) := dk_28 (dk_at dksX5_dent_1 8 rfl rfl)
theorem dX5_dent_33 : decode cX5_dent 33 = .ok (.iconst 0, 1) := dk_3 (dk_at dksX5_dent_1 9 rfl rfl)
theorem dX5_dent_34 : decode cX5_dent 34 = .ok (.iconst 2, 1) := dk_5 (dk_at dksX5_dent_1 10 rfl rfl)
theorem dX5_dent_35 : decode cX5_dent 35 = .ok (.invokestatic 110, 3) := dk_184 0 110 (dk_at dksX5_dent_1 11 rfl rfl)
theorem dX5_dent_38 : decode cX5_dent 38 = .ok (.ifCond .eq 20, 3) := dk_153 0 20 (dk_at dksX5_dent_1 14 rfl rfl)
theorem dX5_dent_41 : decode cX5_dent 41 = .ok (.aload_n 0, 1) := dk_42 (dk_at dksX5_dent_1 17 rfl rfl)
theorem dX5_dent_42 : decode cX5_dent 42 = .ok (.getfield 7, 3) := dk_180 0 7 (dk_at dksX5_dent_1 18 rfl rfl)
theorem dX5_dent_45 : decode cX5_dent 45 = .ok (.sipush 374, 3) := dk_17 1 118 (dk_at dksX5_dent_1 21 rfl rfl)
theorem dX5_dent_48 : decode cX5_dent 48 = .ok (.iconst 3, 1) := dk_6 (dk_at dksX5_dent_2 0 rfl rfl)
theorem dX5_dent_49 : decode cX5_dent 49 = .ok (.iload_n 1, 1) := dk_27 (dk_at dksX5_dent_2 1 rfl rfl)
theorem dX5_dent_50 : decode cX5_dent 50 = .ok (.imul, 1) := dk_104 (dk_at dksX5_dent_2 2 rfl rfl)
theorem dX5_dent_51 : decode cX5_dent 51 = .ok (.iadd, 1) := dk_96 (dk_at dksX5_dent_2 3 rfl rfl)
theorem dX5_dent_52 : decode cX5_dent 52 = .ok (.iload_n 2, 1) := dk_28 (dk_at dksX5_dent_2 4 rfl rfl)
theorem dX5_dent_53 : decode cX5_dent 53 = .ok (.iadd, 1) := dk_96 (dk_at dksX5_dent_2 5 rfl rfl)
theorem dX5_dent_54 : decode cX5_dent 54 = .ok (.iaload, 1) := dk_46 (dk_at dksX5_dent_2 6 rfl rfl)
theorem dX5_dent_55 : decode cX5_dent 55 = .ok (.goto 6, 3) := dk_167 0 6 (dk_at dksX5_dent_2 7 rfl rfl)
theorem dX5_dent_58 : decode cX5_dent 58 = .ok (.sipush (-9999), 3) := dk_17 216 241 (dk_at dksX5_dent_2 10 rfl rfl)
theorem dX5_dent_61 : decode cX5_dent 61 = .ok (.ireturn, 1) := dk_172 (dk_at dksX5_dent_2 13 rfl rfl)
abbrev cX5_called : ByteArray := prog_23_method_68_code
def yX5_called : MethodName := ⟨RX5, "called", "(III)I"⟩
def dkwX5_called_11 : List UInt8 := [46, 172]
abbrev dktX5_called_11 : List UInt8 := dkwX5_called_11 ++ []
def dkwX5_called_10 : List UInt8 := [167, 255, 232, 132, 7, 1, 167, 255, 140, 29, 2, 160, 0, 8, 21, 6, 167, 0, 9, 42, 180, 0, 97, 29]
abbrev dktX5_called_10 : List UInt8 := dkwX5_called_10 ++ dktX5_called_11
def dkwX5_called_9 : List UInt8 := [21, 9, 21, 4, 162, 0, 23, 42, 180, 0, 97, 21, 9, 42, 180, 0, 94, 21, 9, 46, 79, 132, 9, 1]
abbrev dktX5_called_9 : List UInt8 := dkwX5_called_9 ++ dktX5_called_10
def dkwX5_called_8 : List UInt8 := [21, 8, 184, 1, 123, 21, 6, 184, 1, 123, 162, 0, 40, 4, 54, 5, 21, 8, 54, 6, 3, 54, 9]
abbrev dktX5_called_8 : List UInt8 := dkwX5_called_8 ++ dktX5_called_9
def dkwX5_called_7 : List UInt8 := [46, 28, 182, 1, 120, 54, 9, 132, 8, 1, 167, 255, 232, 42, 182, 1, 84, 54, 8, 21, 5, 153, 0, 16]
abbrev dktX5_called_7 : List UInt8 := dkwX5_called_7 ++ dktX5_called_8
def dkwX5_called_6 : List UInt8 := [182, 1, 117, 42, 182, 1, 93, 3, 54, 8, 21, 8, 21, 4, 162, 0, 23, 42, 42, 180, 0, 94, 21, 8]
abbrev dktX5_called_6 : List UInt8 := dkwX5_called_6 ++ dktX5_called_7
def dkwX5_called_5 : List UInt8 := [54, 5, 3, 54, 6, 3, 54, 7, 21, 7, 21, 4, 184, 1, 114, 162, 0, 112, 42, 21, 4, 21, 7]
abbrev dktX5_called_5 : List UInt8 := dkwX5_called_5 ++ dktX5_called_6
def dkwX5_called_4 : List UInt8 := [21, 5, 79, 132, 4, 1, 132, 5, 1, 167, 255, 195, 29, 21, 4, 161, 0, 7, 17, 216, 241, 172, 3]
abbrev dktX5_called_4 : List UInt8 := dkwX5_called_4 ++ dktX5_called_5
def dkwX5_called_3 : List UInt8 := [180, 0, 7, 16, 114, 21, 5, 96, 46, 5, 160, 0, 7, 17, 216, 241, 172, 42, 180, 0, 91, 21, 4]
abbrev dktX5_called_3 : List UInt8 := dkwX5_called_3 ++ dktX5_called_4
def dkwX5_called_2 : List UInt8 := [3, 46, 162, 0, 56, 27, 21, 5, 122, 4, 126, 4, 160, 0, 40, 21, 4, 16, 6, 159, 0, 17, 42]
abbrev dktX5_called_2 : List UInt8 := dkwX5_called_2 ++ dktX5_called_3
def dkwX5_called_1 : List UInt8 := [153, 0, 8, 29, 2, 162, 0, 7, 17, 216, 241, 172, 3, 54, 4, 3, 54, 5, 21, 5, 42, 180, 0, 7]
abbrev dktX5_called_1 : List UInt8 := dkwX5_called_1 ++ dktX5_called_2
def dkwX5_called_0 : List UInt8 := [27, 4, 4, 42, 180, 0, 7, 3, 46, 120, 4, 100, 184, 0, 110, 153, 0, 15, 28, 184, 0, 114]
abbrev dktX5_called_0 : List UInt8 := dkwX5_called_0 ++ dktX5_called_1
theorem dksX5_called_0 : cX5_called.data.toList.drop 0 = dktX5_called_0 := by decide +kernel
theorem dksX5_called_1 : cX5_called.data.toList.drop 22 = dktX5_called_1 := dk_seg dksX5_called_0 22 rfl rfl
theorem dksX5_called_2 : cX5_called.data.toList.drop 46 = dktX5_called_2 := dk_seg dksX5_called_1 24 rfl rfl
theorem dksX5_called_3 : cX5_called.data.toList.drop 69 = dktX5_called_3 := dk_seg dksX5_called_2 23 rfl rfl
theorem dksX5_called_4 : cX5_called.data.toList.drop 92 = dktX5_called_4 := dk_seg dksX5_called_3 23 rfl rfl
theorem dksX5_called_5 : cX5_called.data.toList.drop 115 = dktX5_called_5 := dk_seg dksX5_called_4 23 rfl rfl
theorem dksX5_called_6 : cX5_called.data.toList.drop 138 = dktX5_called_6 := dk_seg dksX5_called_5 23 rfl rfl
theorem dksX5_called_7 : cX5_called.data.toList.drop 162 = dktX5_called_7 := dk_seg dksX5_called_6 24 rfl rfl
theorem dksX5_called_8 : cX5_called.data.toList.drop 186 = dktX5_called_8 := dk_seg dksX5_called_7 24 rfl rfl
theorem dksX5_called_9 : cX5_called.data.toList.drop 209 = dktX5_called_9 := dk_seg dksX5_called_8 23 rfl rfl
theorem dksX5_called_10 : cX5_called.data.toList.drop 233 = dktX5_called_10 := dk_seg dksX5_called_9 24 rfl rfl
theorem dksX5_called_11 : cX5_called.data.toList.drop 257 = dktX5_called_11 := dk_seg dksX5_called_10 24 rfl rfl
theorem dX5_called_0 : decode cX5_called 0 = .ok (.iload_n 1, 1) := dk_27 (dk_at dksX5_called_0 0 rfl rfl)
theorem dX5_called_1 : decode cX5_called 1 = .ok (.iconst 1, 1) := dk_4 (dk_at dksX5_called_0 1 rfl rfl)
theorem dX5_called_2 : decode cX5_called 2 = .ok (.iconst 1, 1) := dk_4 (dk_at dksX5_called_0 2 rfl rfl)
theorem dX5_called_3 : decode cX5_called 3 = .ok (.aload_n 0, 1) := dk_42 (dk_at dksX5_called_0 3 rfl rfl)
theorem dX5_called_4 : decode cX5_called 4 = .ok (.getfield 7, 3) := dk_180 0 7 (dk_at dksX5_called_0 4 rfl rfl)
theorem dX5_called_7 : decode cX5_called 7 = .ok (.iconst 0, 1) := dk_3 (dk_at dksX5_called_0 7 rfl rfl)
theorem dX5_called_8 : decode cX5_called 8 = .ok (.iaload, 1) := dk_46 (dk_at dksX5_called_0 8 rfl rfl)
theorem dX5_called_9 : decode cX5_called 9 = .ok (.ishl, 1) := dk_120 (dk_at dksX5_called_0 9 rfl rfl)
theorem dX5_called_10 : decode cX5_called 10 = .ok (.iconst 1, 1) := dk_4 (dk_at dksX5_called_0 10 rfl rfl)
theorem dX5_called_11 : decode cX5_called 11 = .ok (.isub, 1) := dk_100 (dk_at dksX5_called_0 11 rfl rfl)
theorem dX5_called_12 : decode cX5_called 12 = .ok (.invokestatic 110, 3) := dk_184 0 110 (dk_at dksX5_called_0 12 rfl rfl)
theorem dX5_called_15 : decode cX5_called 15 = .ok (.ifCond .eq 15, 3) := dk_153 0 15 (dk_at dksX5_called_0 15 rfl rfl)
theorem dX5_called_18 : decode cX5_called 18 = .ok (.iload_n 2, 1) := dk_28 (dk_at dksX5_called_0 18 rfl rfl)
theorem dX5_called_19 : decode cX5_called 19 = .ok (.invokestatic 114, 3) := dk_184 0 114 (dk_at dksX5_called_0 19 rfl rfl)
theorem dX5_called_22 : decode cX5_called 22 = .ok (.ifCond .eq 8, 3) := dk_153 0 8 (dk_at dksX5_called_1 0 rfl rfl)
theorem dX5_called_25 : decode cX5_called 25 = .ok (.iload_n 3, 1) := dk_29 (dk_at dksX5_called_1 3 rfl rfl)
theorem dX5_called_26 : decode cX5_called 26 = .ok (.iconst (-1), 1) := dk_2 (dk_at dksX5_called_1 4 rfl rfl)
theorem dX5_called_27 : decode cX5_called 27 = .ok (.if_icmp .ge 7, 3) := dk_162 0 7 (dk_at dksX5_called_1 5 rfl rfl)
theorem dX5_called_30 : decode cX5_called 30 = .ok (.sipush (-9999), 3) := dk_17 216 241 (dk_at dksX5_called_1 8 rfl rfl)
theorem dX5_called_33 : decode cX5_called 33 = .ok (.ireturn, 1) := dk_172 (dk_at dksX5_called_1 11 rfl rfl)
theorem dX5_called_34 : decode cX5_called 34 = .ok (.iconst 0, 1) := dk_3 (dk_at dksX5_called_1 12 rfl rfl)
theorem dX5_called_35 : decode cX5_called 35 = .ok (.istore 4, 2) := dk_54 4 (dk_at dksX5_called_1 13 rfl rfl)
theorem dX5_called_37 : decode cX5_called 37 = .ok (.iconst 0, 1) := dk_3 (dk_at dksX5_called_1 15 rfl rfl)
theorem dX5_called_38 : decode cX5_called 38 = .ok (.istore 5, 2) := dk_54 5 (dk_at dksX5_called_1 16 rfl rfl)
theorem dX5_called_40 : decode cX5_called 40 = .ok (.iload 5, 2) := dk_21 5 (dk_at dksX5_called_1 18 rfl rfl)
theorem dX5_called_42 : decode cX5_called 42 = .ok (.aload_n 0, 1) := dk_42 (dk_at dksX5_called_1 20 rfl rfl)
theorem dX5_called_43 : decode cX5_called 43 = .ok (.getfield 7, 3) := dk_180 0 7 (dk_at dksX5_called_1 21 rfl rfl)
theorem dX5_called_46 : decode cX5_called 46 = .ok (.iconst 0, 1) := dk_3 (dk_at dksX5_called_2 0 rfl rfl)
theorem dX5_called_47 : decode cX5_called 47 = .ok (.iaload, 1) := dk_46 (dk_at dksX5_called_2 1 rfl rfl)
theorem dX5_called_48 : decode cX5_called 48 = .ok (.if_icmp .ge 56, 3) := dk_162 0 56 (dk_at dksX5_called_2 2 rfl rfl)
theorem dX5_called_51 : decode cX5_called 51 = .ok (.iload_n 1, 1) := dk_27 (dk_at dksX5_called_2 5 rfl rfl)
theorem dX5_called_52 : decode cX5_called 52 = .ok (.iload 5, 2) := dk_21 5 (dk_at dksX5_called_2 6 rfl rfl)
theorem dX5_called_54 : decode cX5_called 54 = .ok (.ishr, 1) := dk_122 (dk_at dksX5_called_2 8 rfl rfl)
theorem dX5_called_55 : decode cX5_called 55 = .ok (.iconst 1, 1) := dk_4 (dk_at dksX5_called_2 9 rfl rfl)
theorem dX5_called_56 : decode cX5_called 56 = .ok (.iand, 1) := dk_126 (dk_at dksX5_called_2 10 rfl rfl)
theorem dX5_called_57 : decode cX5_called 57 = .ok (.iconst 1, 1) := dk_4 (dk_at dksX5_called_2 11 rfl rfl)
theorem dX5_called_58 : decode cX5_called 58 = .ok (.if_icmp .ne 40, 3) := dk_160 0 40 (dk_at dksX5_called_2 12 rfl rfl)
theorem dX5_called_61 : decode cX5_called 61 = .ok (.iload 4, 2) := dk_21 4 (dk_at dksX5_called_2 15 rfl rfl)
theorem dX5_called_63 : decode cX5_called 63 = .ok (.bipush 6, 2) := dk_16 6 (dk_at dksX5_called_2 17 rfl rfl)
theorem dX5_called_65 : decode cX5_called 65 = .ok (.if_icmp .eq 17, 3) := dk_159 0 17 (dk_at dksX5_called_2 19 rfl rfl)
theorem dX5_called_68 : decode cX5_called 68 = .ok (.aload_n 0, 1) := dk_42 (dk_at dksX5_called_2 22 rfl rfl)
theorem dX5_called_69 : decode cX5_called 69 = .ok (.getfield 7, 3) := dk_180 0 7 (dk_at dksX5_called_3 0 rfl rfl)
theorem dX5_called_72 : decode cX5_called 72 = .ok (.bipush 114, 2) := dk_16 114 (dk_at dksX5_called_3 3 rfl rfl)
theorem dX5_called_74 : decode cX5_called 74 = .ok (.iload 5, 2) := dk_21 5 (dk_at dksX5_called_3 5 rfl rfl)
theorem dX5_called_76 : decode cX5_called 76 = .ok (.iadd, 1) := dk_96 (dk_at dksX5_called_3 7 rfl rfl)
theorem dX5_called_77 : decode cX5_called 77 = .ok (.iaload, 1) := dk_46 (dk_at dksX5_called_3 8 rfl rfl)
theorem dX5_called_78 : decode cX5_called 78 = .ok (.iconst 2, 1) := dk_5 (dk_at dksX5_called_3 9 rfl rfl)
theorem dX5_called_79 : decode cX5_called 79 = .ok (.if_icmp .ne 7, 3) := dk_160 0 7 (dk_at dksX5_called_3 10 rfl rfl)
theorem dX5_called_82 : decode cX5_called 82 = .ok (.sipush (-9999), 3) := dk_17 216 241 (dk_at dksX5_called_3 13 rfl rfl)
theorem dX5_called_85 : decode cX5_called 85 = .ok (.ireturn, 1) := dk_172 (dk_at dksX5_called_3 16 rfl rfl)
theorem dX5_called_86 : decode cX5_called 86 = .ok (.aload_n 0, 1) := dk_42 (dk_at dksX5_called_3 17 rfl rfl)
theorem dX5_called_87 : decode cX5_called 87 = .ok (.getfield 91, 3) := dk_180 0 91 (dk_at dksX5_called_3 18 rfl rfl)
theorem dX5_called_90 : decode cX5_called 90 = .ok (.iload 4, 2) := dk_21 4 (dk_at dksX5_called_3 21 rfl rfl)
theorem dX5_called_92 : decode cX5_called 92 = .ok (.iload 5, 2) := dk_21 5 (dk_at dksX5_called_4 0 rfl rfl)
theorem dX5_called_94 : decode cX5_called 94 = .ok (.iastore, 1) := dk_79 (dk_at dksX5_called_4 2 rfl rfl)
theorem dX5_called_95 : decode cX5_called 95 = .ok (.iinc 4 1, 3) := dk_132 4 1 (dk_at dksX5_called_4 3 rfl rfl)
theorem dX5_called_98 : decode cX5_called 98 = .ok (.iinc 5 1, 3) := dk_132 5 1 (dk_at dksX5_called_4 6 rfl rfl)
theorem dX5_called_101 : decode cX5_called 101 = .ok (.goto (-61), 3) := dk_167 255 195 (dk_at dksX5_called_4 9 rfl rfl)
theorem dX5_called_104 : decode cX5_called 104 = .ok (.iload_n 3, 1) := dk_29 (dk_at dksX5_called_4 12 rfl rfl)
theorem dX5_called_105 : decode cX5_called 105 = .ok (.iload 4, 2) := dk_21 4 (dk_at dksX5_called_4 13 rfl rfl)
theorem dX5_called_107 : decode cX5_called 107 = .ok (.if_icmp .lt 7, 3) := dk_161 0 7 (dk_at dksX5_called_4 15 rfl rfl)
theorem dX5_called_110 : decode cX5_called 110 = .ok (.sipush (-9999), 3) := dk_17 216 241 (dk_at dksX5_called_4 18 rfl rfl)
theorem dX5_called_113 : decode cX5_called 113 = .ok (.ireturn, 1) := dk_172 (dk_at dksX5_called_4 21 rfl rfl)
theorem dX5_called_114 : decode cX5_called 114 = .ok (.iconst 0, 1) := dk_3 (dk_at dksX5_called_4 22 rfl rfl)
theorem dX5_called_115 : decode cX5_called 115 = .ok (.istore 5, 2) := dk_54 5 (dk_at dksX5_called_5 0 rfl rfl)
theorem dX5_called_117 : decode cX5_called 117 = .ok (.iconst 0, 1) := dk_3 (dk_at dksX5_called_5 2 rfl rfl)
theorem dX5_called_118 : decode cX5_called 118 = .ok (.istore 6, 2) := dk_54 6 (dk_at dksX5_called_5 3 rfl rfl)
theorem dX5_called_120 : decode cX5_called 120 = .ok (.iconst 0, 1) := dk_3 (dk_at dksX5_called_5 5 rfl rfl)
theorem dX5_called_121 : decode cX5_called 121 = .ok (.istore 7, 2) := dk_54 7 (dk_at dksX5_called_5 6 rfl rfl)
theorem dX5_called_123 : decode cX5_called 123 = .ok (.iload 7, 2) := dk_21 7 (dk_at dksX5_called_5 8 rfl rfl)
theorem dX5_called_125 : decode cX5_called 125 = .ok (.iload 4, 2) := dk_21 4 (dk_at dksX5_called_5 10 rfl rfl)
theorem dX5_called_127 : decode cX5_called 127 = .ok (.invokestatic 370, 3) := dk_184 1 114 (dk_at dksX5_called_5 12 rfl rfl)
theorem dX5_called_130 : decode cX5_called 130 = .ok (.if_icmp .ge 112, 3) := dk_162 0 112 (dk_at dksX5_called_5 15 rfl rfl)
theorem dX5_called_133 : decode cX5_called 133 = .ok (.aload_n 0, 1) := dk_42 (dk_at dksX5_called_5 18 rfl rfl)
theorem dX5_called_134 : decode cX5_called 134 = .ok (.iload 4, 2) := dk_21 4 (dk_at dksX5_called_5 19 rfl rfl)
theorem dX5_called_136 : decode cX5_called 136 = .ok (.iload 7, 2) := dk_21 7 (dk_at dksX5_called_5 21 rfl rfl)
theorem dX5_called_138 : decode cX5_called 138 = .ok (.invokevirtual 373, 3) := dk_182 1 117 (dk_at dksX5_called_6 0 rfl rfl)
theorem dX5_called_141 : decode cX5_called 141 = .ok (.aload_n 0, 1) := dk_42 (dk_at dksX5_called_6 3 rfl rfl)
theorem dX5_called_142 : decode cX5_called 142 = .ok (.invokevirtual 349, 3) := dk_182 1 93 (dk_at dksX5_called_6 4 rfl rfl)
theorem dX5_called_145 : decode cX5_called 145 = .ok (.iconst 0, 1) := dk_3 (dk_at dksX5_called_6 7 rfl rfl)
theorem dX5_called_146 : decode cX5_called 146 = .ok (.istore 8, 2) := dk_54 8 (dk_at dksX5_called_6 8 rfl rfl)
theorem dX5_called_148 : decode cX5_called 148 = .ok (.iload 8, 2) := dk_21 8 (dk_at dksX5_called_6 10 rfl rfl)
theorem dX5_called_150 : decode cX5_called 150 = .ok (.iload 4, 2) := dk_21 4 (dk_at dksX5_called_6 12 rfl rfl)
theorem dX5_called_152 : decode cX5_called 152 = .ok (.if_icmp .ge 23, 3) := dk_162 0 23 (dk_at dksX5_called_6 14 rfl rfl)
theorem dX5_called_155 : decode cX5_called 155 = .ok (.aload_n 0, 1) := dk_42 (dk_at dksX5_called_6 17 rfl rfl)
theorem dX5_called_156 : decode cX5_called 156 = .ok (.aload_n 0, 1) := dk_42 (dk_at dksX5_called_6 18 rfl rfl)
theorem dX5_called_157 : decode cX5_called 157 = .ok (.getfield 94, 3) := dk_180 0 94 (dk_at dksX5_called_6 19 rfl rfl)
theorem dX5_called_160 : decode cX5_called 160 = .ok (.iload 8, 2) := dk_21 8 (dk_at dksX5_called_6 22 rfl rfl)
theorem dX5_called_162 : decode cX5_called 162 = .ok (.iaload, 1) := dk_46 (dk_at dksX5_called_7 0 rfl rfl)
theorem dX5_called_163 : decode cX5_called 163 = .ok (.iload_n 2, 1) := dk_28 (dk_at dksX5_called_7 1 rfl rfl)
theorem dX5_called_164 : decode cX5_called 164 = .ok (.invokevirtual 376, 3) := dk_182 1 120 (dk_at dksX5_called_7 2 rfl rfl)
theorem dX5_called_167 : decode cX5_called 167 = .ok (.istore 9, 2) := dk_54 9 (dk_at dksX5_called_7 5 rfl rfl)
theorem dX5_called_169 : decode cX5_called 169 = .ok (.iinc 8 1, 3) := dk_132 8 1 (dk_at dksX5_called_7 7 rfl rfl)
theorem dX5_called_172 : decode cX5_called 172 = .ok (.goto (-24), 3) := dk_167 255 232 (dk_at dksX5_called_7 10 rfl rfl)
theorem dX5_called_175 : decode cX5_called 175 = .ok (.aload_n 0, 1) := dk_42 (dk_at dksX5_called_7 13 rfl rfl)
theorem dX5_called_176 : decode cX5_called 176 = .ok (.invokevirtual 340, 3) := dk_182 1 84 (dk_at dksX5_called_7 14 rfl rfl)
theorem dX5_called_179 : decode cX5_called 179 = .ok (.istore 8, 2) := dk_54 8 (dk_at dksX5_called_7 17 rfl rfl)
theorem dX5_called_181 : decode cX5_called 181 = .ok (.iload 5, 2) := dk_21 5 (dk_at dksX5_called_7 19 rfl rfl)
theorem dX5_called_183 : decode cX5_called 183 = .ok (.ifCond .eq 16, 3) := dk_153 0 16 (dk_at dksX5_called_7 21 rfl rfl)
theorem dX5_called_186 : decode cX5_called 186 = .ok (.iload 8, 2) := dk_21 8 (dk_at dksX5_called_8 0 rfl rfl)
theorem dX5_called_188 : decode cX5_called 188 = .ok (.invokestatic 379, 3) := dk_184 1 123 (dk_at dksX5_called_8 2 rfl rfl)
theorem dX5_called_191 : decode cX5_called 191 = .ok (.iload 6, 2) := dk_21 6 (dk_at dksX5_called_8 5 rfl rfl)
theorem dX5_called_193 : decode cX5_called 193 = .ok (.invokestatic 379, 3) := dk_184 1 123 (dk_at dksX5_called_8 7 rfl rfl)
theorem dX5_called_196 : decode cX5_called 196 = .ok (.if_icmp .ge 40, 3) := dk_162 0 40 (dk_at dksX5_called_8 10 rfl rfl)
theorem dX5_called_199 : decode cX5_called 199 = .ok (.iconst 1, 1) := dk_4 (dk_at dksX5_called_8 13 rfl rfl)
theorem dX5_called_200 : decode cX5_called 200 = .ok (.istore 5, 2) := dk_54 5 (dk_at dksX5_called_8 14 rfl rfl)
theorem dX5_called_202 : decode cX5_called 202 = .ok (.iload 8, 2) := dk_21 8 (dk_at dksX5_called_8 16 rfl rfl)
theorem dX5_called_204 : decode cX5_called 204 = .ok (.istore 6, 2) := dk_54 6 (dk_at dksX5_called_8 18 rfl rfl)
theorem dX5_called_206 : decode cX5_called 206 = .ok (.iconst 0, 1) := dk_3 (dk_at dksX5_called_8 20 rfl rfl)
theorem dX5_called_207 : decode cX5_called 207 = .ok (.istore 9, 2) := dk_54 9 (dk_at dksX5_called_8 21 rfl rfl)
theorem dX5_called_209 : decode cX5_called 209 = .ok (.iload 9, 2) := dk_21 9 (dk_at dksX5_called_9 0 rfl rfl)
theorem dX5_called_211 : decode cX5_called 211 = .ok (.iload 4, 2) := dk_21 4 (dk_at dksX5_called_9 2 rfl rfl)
theorem dX5_called_213 : decode cX5_called 213 = .ok (.if_icmp .ge 23, 3) := dk_162 0 23 (dk_at dksX5_called_9 4 rfl rfl)
theorem dX5_called_216 : decode cX5_called 216 = .ok (.aload_n 0, 1) := dk_42 (dk_at dksX5_called_9 7 rfl rfl)
theorem dX5_called_217 : decode cX5_called 217 = .ok (.getfield 97, 3) := dk_180 0 97 (dk_at dksX5_called_9 8 rfl rfl)
theorem dX5_called_220 : decode cX5_called 220 = .ok (.iload 9, 2) := dk_21 9 (dk_at dksX5_called_9 11 rfl rfl)
theorem dX5_called_222 : decode cX5_called 222 = .ok (.aload_n 0, 1) := dk_42 (dk_at dksX5_called_9 13 rfl rfl)
theorem dX5_called_223 : decode cX5_called 223 = .ok (.getfield 94, 3) := dk_180 0 94 (dk_at dksX5_called_9 14 rfl rfl)
theorem dX5_called_226 : decode cX5_called 226 = .ok (.iload 9, 2) := dk_21 9 (dk_at dksX5_called_9 17 rfl rfl)
theorem dX5_called_228 : decode cX5_called 228 = .ok (.iaload, 1) := dk_46 (dk_at dksX5_called_9 19 rfl rfl)
theorem dX5_called_229 : decode cX5_called 229 = .ok (.iastore, 1) := dk_79 (dk_at dksX5_called_9 20 rfl rfl)
theorem dX5_called_230 : decode cX5_called 230 = .ok (.iinc 9 1, 3) := dk_132 9 1 (dk_at dksX5_called_9 21 rfl rfl)
theorem dX5_called_233 : decode cX5_called 233 = .ok (.goto (-24), 3) := dk_167 255 232 (dk_at dksX5_called_10 0 rfl rfl)
theorem dX5_called_236 : decode cX5_called 236 = .ok (.iinc 7 1, 3) := dk_132 7 1 (dk_at dksX5_called_10 3 rfl rfl)
theorem dX5_called_239 : decode cX5_called 239 = .ok (.goto (-116), 3) := dk_167 255 140 (dk_at dksX5_called_10 6 rfl rfl)
theorem dX5_called_242 : decode cX5_called 242 = .ok (.iload_n 3, 1) := dk_29 (dk_at dksX5_called_10 9 rfl rfl)
theorem dX5_called_243 : decode cX5_called 243 = .ok (.iconst (-1), 1) := dk_2 (dk_at dksX5_called_10 10 rfl rfl)
theorem dX5_called_244 : decode cX5_called 244 = .ok (.if_icmp .ne 8, 3) := dk_160 0 8 (dk_at dksX5_called_10 11 rfl rfl)
theorem dX5_called_247 : decode cX5_called 247 = .ok (.iload 6, 2) := dk_21 6 (dk_at dksX5_called_10 14 rfl rfl)
theorem dX5_called_249 : decode cX5_called 249 = .ok (.goto 9, 3) := dk_167 0 9 (dk_at dksX5_called_10 16 rfl rfl)
theorem dX5_called_252 : decode cX5_called 252 = .ok (.aload_n 0, 1) := dk_42 (dk_at dksX5_called_10 19 rfl rfl)
theorem dX5_called_253 : decode cX5_called 253 = .ok (.getfield 97, 3) := dk_180 0 97 (dk_at dksX5_called_10 20 rfl rfl)
theorem dX5_called_256 : decode cX5_called 256 = .ok (.iload_n 3, 1) := dk_29 (dk_at dksX5_called_10 23 rfl rfl)
theorem dX5_called_257 : decode cX5_called 257 = .ok (.iaload, 1) := dk_46 (dk_at dksX5_called_11 0 rfl rfl)
theorem dX5_called_258 : decode cX5_called 258 = .ok (.ireturn, 1) := dk_172 (dk_at dksX5_called_11 1 rfl rfl)
abbrev cX5_rows : ByteArray := prog_23_method_65_code
def yX5_rows : MethodName := ⟨RX5, "rows", "(I)I"⟩
def dkwX5_rows_0 : List UInt8 := [4, 60, 5, 61, 28, 26, 163, 0, 13, 27, 28, 104, 60, 132, 2, 1, 167, 255, 244, 27, 172]
abbrev dktX5_rows_0 : List UInt8 := dkwX5_rows_0 ++ []
theorem dksX5_rows_0 : cX5_rows.data.toList.drop 0 = dktX5_rows_0 := by decide +kernel
theorem dX5_rows_0 : decode cX5_rows 0 = .ok (.iconst 1, 1) := dk_4 (dk_at dksX5_rows_0 0 rfl rfl)
theorem dX5_rows_1 : decode cX5_rows 1 = .ok (.istore_n 1, 1) := dk_60 (dk_at dksX5_rows_0 1 rfl rfl)
theorem dX5_rows_2 : decode cX5_rows 2 = .ok (.iconst 2, 1) := dk_5 (dk_at dksX5_rows_0 2 rfl rfl)
theorem dX5_rows_3 : decode cX5_rows 3 = .ok (.istore_n 2, 1) := dk_61 (dk_at dksX5_rows_0 3 rfl rfl)
theorem dX5_rows_4 : decode cX5_rows 4 = .ok (.iload_n 2, 1) := dk_28 (dk_at dksX5_rows_0 4 rfl rfl)
theorem dX5_rows_5 : decode cX5_rows 5 = .ok (.iload_n 0, 1) := dk_26 (dk_at dksX5_rows_0 5 rfl rfl)
theorem dX5_rows_6 : decode cX5_rows 6 = .ok (.if_icmp .gt 13, 3) := dk_163 0 13 (dk_at dksX5_rows_0 6 rfl rfl)
theorem dX5_rows_9 : decode cX5_rows 9 = .ok (.iload_n 1, 1) := dk_27 (dk_at dksX5_rows_0 9 rfl rfl)
theorem dX5_rows_10 : decode cX5_rows 10 = .ok (.iload_n 2, 1) := dk_28 (dk_at dksX5_rows_0 10 rfl rfl)
theorem dX5_rows_11 : decode cX5_rows 11 = .ok (.imul, 1) := dk_104 (dk_at dksX5_rows_0 11 rfl rfl)
theorem dX5_rows_12 : decode cX5_rows 12 = .ok (.istore_n 1, 1) := dk_60 (dk_at dksX5_rows_0 12 rfl rfl)
theorem dX5_rows_13 : decode cX5_rows 13 = .ok (.iinc 2 1, 3) := dk_132 2 1 (dk_at dksX5_rows_0 13 rfl rfl)
theorem dX5_rows_16 : decode cX5_rows 16 = .ok (.goto (-12), 3) := dk_167 255 244 (dk_at dksX5_rows_0 16 rfl rfl)
theorem dX5_rows_19 : decode cX5_rows 19 = .ok (.iload_n 1, 1) := dk_27 (dk_at dksX5_rows_0 19 rfl rfl)
theorem dX5_rows_20 : decode cX5_rows 20 = .ok (.ireturn, 1) := dk_172 (dk_at dksX5_rows_0 20 rfl rfl)
abbrev cX5_laysOrder : ByteArray := prog_23_method_66_code
def yX5_laysOrder : MethodName := ⟨RX5, "laysOrder", "(II)V"⟩
def dkwX5_laysOrder_4 : List UInt8 := [180, 0, 94, 21, 5, 42, 180, 0, 91, 21, 7, 46, 79, 132, 5, 1, 167, 255, 153, 177]
abbrev dktX5_laysOrder_4 : List UInt8 := dkwX5_laysOrder_4 ++ []
def dkwX5_laysOrder_3 : List UInt8 := [167, 0, 4, 4, 100, 54, 6, 132, 7, 1, 167, 255, 216, 21, 4, 4, 21, 7, 120, 128, 54, 4, 42]
abbrev dktX5_laysOrder_3 : List UInt8 := dkwX5_laysOrder_3 ++ dktX5_laysOrder_4
def dkwX5_laysOrder_2 : List UInt8 := [126, 4, 159, 0, 8, 21, 6, 158, 0, 30, 21, 6, 21, 4, 21, 7, 122, 4, 126, 4, 160, 0, 7, 3]
abbrev dktX5_laysOrder_2 : List UInt8 := dkwX5_laysOrder_2 ++ dktX5_laysOrder_3
def dkwX5_laysOrder_1 : List UInt8 := [108, 54, 6, 29, 27, 4, 100, 21, 5, 100, 184, 1, 114, 112, 62, 3, 54, 7, 21, 4, 21, 7, 122, 4]
abbrev dktX5_laysOrder_1 : List UInt8 := dkwX5_laysOrder_1 ++ dktX5_laysOrder_2
def dkwX5_laysOrder_0 : List UInt8 := [28, 62, 3, 54, 4, 3, 54, 5, 21, 5, 27, 162, 0, 103, 29, 27, 4, 100, 21, 5, 100, 184, 1, 114]
abbrev dktX5_laysOrder_0 : List UInt8 := dkwX5_laysOrder_0 ++ dktX5_laysOrder_1
theorem dksX5_laysOrder_0 : cX5_laysOrder.data.toList.drop 0 = dktX5_laysOrder_0 := by decide +kernel
theorem dksX5_laysOrder_1 : cX5_laysOrder.data.toList.drop 24 = dktX5_laysOrder_1 := dk_seg dksX5_laysOrder_0 24 rfl rfl
theorem dksX5_laysOrder_2 : cX5_laysOrder.data.toList.drop 48 = dktX5_laysOrder_2 := dk_seg dksX5_laysOrder_1 24 rfl rfl
theorem dksX5_laysOrder_3 : cX5_laysOrder.data.toList.drop 72 = dktX5_laysOrder_3 := dk_seg dksX5_laysOrder_2 24 rfl rfl
theorem dksX5_laysOrder_4 : cX5_laysOrder.data.toList.drop 95 = dktX5_laysOrder_4 := dk_seg dksX5_laysOrder_3 23 rfl rfl
theorem dX5_laysOrder_0 : decode cX5_laysOrder 0 = .ok (.iload_n 2, 1) := dk_28 (dk_at dksX5_laysOrder_0 0 rfl rfl)
theorem dX5_laysOrder_1 : decode cX5_laysOrder 1 = .ok (.istore_n 3, 1) := dk_62 (dk_at dksX5_laysOrder_0 1 rfl rfl)
theorem dX5_laysOrder_2 : decode cX5_laysOrder 2 = .ok (.iconst 0, 1) := dk_3 (dk_at dksX5_laysOrder_0 2 rfl rfl)
theorem dX5_laysOrder_3 : decode cX5_laysOrder 3 = .ok (.istore 4, 2) := dk_54 4 (dk_at dksX5_laysOrder_0 3 rfl rfl)
theorem dX5_laysOrder_5 : decode cX5_laysOrder 5 = .ok (.iconst 0, 1) := dk_3 (dk_at dksX5_laysOrder_0 5 rfl rfl)
theorem dX5_laysOrder_6 : decode cX5_laysOrder 6 = .ok (.istore 5, 2) := dk_54 5 (dk_at dksX5_laysOrder_0 6 rfl rfl)
theorem dX5_laysOrder_8 : decode cX5_laysOrder 8 = .ok (.iload 5, 2) := dk_21 5 (dk_at dksX5_laysOrder_0 8 rfl rfl)
theorem dX5_laysOrder_10 : decode cX5_laysOrder 10 = .ok (.iload_n 1, 1) := dk_27 (dk_at dksX5_laysOrder_0 10 rfl rfl)
theorem dX5_laysOrder_11 : decode cX5_laysOrder 11 = .ok (.if_icmp .ge 103, 3) := dk_162 0 103 (dk_at dksX5_laysOrder_0 11 rfl rfl)
theorem dX5_laysOrder_14 : decode cX5_laysOrder 14 = .ok (.iload_n 3, 1) := dk_29 (dk_at dksX5_laysOrder_0 14 rfl rfl)
theorem dX5_laysOrder_15 : decode cX5_laysOrder 15 = .ok (.iload_n 1, 1) := dk_27 (dk_at dksX5_laysOrder_0 15 rfl rfl)
theorem dX5_laysOrder_16 : decode cX5_laysOrder 16 = .ok (.iconst 1, 1) := dk_4 (dk_at dksX5_laysOrder_0 16 rfl rfl)
theorem dX5_laysOrder_17 : decode cX5_laysOrder 17 = .ok (.isub, 1) := dk_100 (dk_at dksX5_laysOrder_0 17 rfl rfl)
theorem dX5_laysOrder_18 : decode cX5_laysOrder 18 = .ok (.iload 5, 2) := dk_21 5 (dk_at dksX5_laysOrder_0 18 rfl rfl)
theorem dX5_laysOrder_20 : decode cX5_laysOrder 20 = .ok (.isub, 1) := dk_100 (dk_at dksX5_laysOrder_0 20 rfl rfl)
theorem dX5_laysOrder_21 : decode cX5_laysOrder 21 = .ok (.invokestatic 370, 3) := dk_184 1 114 (dk_at dksX5_laysOrder_0 21 rfl rfl)
theorem dX5_laysOrder_24 : decode cX5_laysOrder 24 = .ok (.idiv, 1) := dk_108 (dk_at dksX5_laysOrder_1 0 rfl rfl)
theorem dX5_laysOrder_25 : decode cX5_laysOrder 25 = .ok (.istore 6, 2) := dk_54 6 (dk_at dksX5_laysOrder_1 1 rfl rfl)
theorem dX5_laysOrder_27 : decode cX5_laysOrder 27 = .ok (.iload_n 3, 1) := dk_29 (dk_at dksX5_laysOrder_1 3 rfl rfl)
theorem dX5_laysOrder_28 : decode cX5_laysOrder 28 = .ok (.iload_n 1, 1) := dk_27 (dk_at dksX5_laysOrder_1 4 rfl rfl)
theorem dX5_laysOrder_29 : decode cX5_laysOrder 29 = .ok (.iconst 1, 1) := dk_4 (dk_at dksX5_laysOrder_1 5 rfl rfl)
theorem dX5_laysOrder_30 : decode cX5_laysOrder 30 = .ok (.isub, 1) := dk_100 (dk_at dksX5_laysOrder_1 6 rfl rfl)
theorem dX5_laysOrder_31 : decode cX5_laysOrder 31 = .ok (.iload 5, 2) := dk_21 5 (dk_at dksX5_laysOrder_1 7 rfl rfl)
theorem dX5_laysOrder_33 : decode cX5_laysOrder 33 = .ok (.isub, 1) := dk_100 (dk_at dksX5_laysOrder_1 9 rfl rfl)
theorem dX5_laysOrder_34 : decode cX5_laysOrder 34 = .ok (.invokestatic 370, 3) := dk_184 1 114 (dk_at dksX5_laysOrder_1 10 rfl rfl)
theorem dX5_laysOrder_37 : decode cX5_laysOrder 37 = .ok (.irem, 1) := dk_112 (dk_at dksX5_laysOrder_1 13 rfl rfl)
theorem dX5_laysOrder_38 : decode cX5_laysOrder 38 = .ok (.istore_n 3, 1) := dk_62 (dk_at dksX5_laysOrder_1 14 rfl rfl)
theorem dX5_laysOrder_39 : decode cX5_laysOrder 39 = .ok (.iconst 0, 1) := dk_3 (dk_at dksX5_laysOrder_1 15 rfl rfl)
theorem dX5_laysOrder_40 : decode cX5_laysOrder 40 = .ok (.istore 7, 2) := dk_54 7 (dk_at dksX5_laysOrder_1 16 rfl rfl)
theorem dX5_laysOrder_42 : decode cX5_laysOrder 42 = .ok (.iload 4, 2) := dk_21 4 (dk_at dksX5_laysOrder_1 18 rfl rfl)
theorem dX5_laysOrder_44 : decode cX5_laysOrder 44 = .ok (.iload 7, 2) := dk_21 7 (dk_at dksX5_laysOrder_1 20 rfl rfl)
theorem dX5_laysOrder_46 : decode cX5_laysOrder 46 = .ok (.ishr, 1) := dk_122 (dk_at dksX5_laysOrder_1 22 rfl rfl)
theorem dX5_laysOrder_47 : decode cX5_laysOrder 47 = .ok (.iconst 1, 1) := dk_4 (dk_at dksX5_laysOrder_1 23 rfl rfl)
theorem dX5_laysOrder_48 : decode cX5_laysOrder 48 = .ok (.iand, 1) := dk_126 (dk_at dksX5_laysOrder_2 0 rfl rfl)
theorem dX5_laysOrder_49 : decode cX5_laysOrder 49 = .ok (.iconst 1, 1) := dk_4 (dk_at dksX5_laysOrder_2 1 rfl rfl)
theorem dX5_laysOrder_50 : decode cX5_laysOrder 50 = .ok (.if_icmp .eq 8, 3) := dk_159 0 8 (dk_at dksX5_laysOrder_2 2 rfl rfl)
theorem dX5_laysOrder_53 : decode cX5_laysOrder 53 = .ok (.iload 6, 2) := dk_21 6 (dk_at dksX5_laysOrder_2 5 rfl rfl)
theorem dX5_laysOrder_55 : decode cX5_laysOrder 55 = .ok (.ifCond .le 30, 3) := dk_158 0 30 (dk_at dksX5_laysOrder_2 7 rfl rfl)
theorem dX5_laysOrder_58 : decode cX5_laysOrder 58 = .ok (.iload 6, 2) := dk_21 6 (dk_at dksX5_laysOrder_2 10 rfl rfl)
theorem dX5_laysOrder_60 : decode cX5_laysOrder 60 = .ok (.iload 4, 2) := dk_21 4 (dk_at dksX5_laysOrder_2 12 rfl rfl)
theorem dX5_laysOrder_62 : decode cX5_laysOrder 62 = .ok (.iload 7, 2) := dk_21 7 (dk_at dksX5_laysOrder_2 14 rfl rfl)
theorem dX5_laysOrder_64 : decode cX5_laysOrder 64 = .ok (.ishr, 1) := dk_122 (dk_at dksX5_laysOrder_2 16 rfl rfl)
theorem dX5_laysOrder_65 : decode cX5_laysOrder 65 = .ok (.iconst 1, 1) := dk_4 (dk_at dksX5_laysOrder_2 17 rfl rfl)
theorem dX5_laysOrder_66 : decode cX5_laysOrder 66 = .ok (.iand, 1) := dk_126 (dk_at dksX5_laysOrder_2 18 rfl rfl)
theorem dX5_laysOrder_67 : decode cX5_laysOrder 67 = .ok (.iconst 1, 1) := dk_4 (dk_at dksX5_laysOrder_2 19 rfl rfl)
theorem dX5_laysOrder_68 : decode cX5_laysOrder 68 = .ok (.if_icmp .ne 7, 3) := dk_160 0 7 (dk_at dksX5_laysOrder_2 20 rfl rfl)
theorem dX5_laysOrder_71 : decode cX5_laysOrder 71 = .ok (.iconst 0, 1) := dk_3 (dk_at dksX5_laysOrder_2 23 rfl rfl)
theorem dX5_laysOrder_72 : decode cX5_laysOrder 72 = .ok (.goto 4, 3) := dk_167 0 4 (dk_at dksX5_laysOrder_3 0 rfl rfl)
theorem dX5_laysOrder_75 : decode cX5_laysOrder 75 = .ok (.iconst 1, 1) := dk_4 (dk_at dksX5_laysOrder_3 3 rfl rfl)
theorem dX5_laysOrder_76 : decode cX5_laysOrder 76 = .ok (.isub, 1) := dk_100 (dk_at dksX5_laysOrder_3 4 rfl rfl)
theorem dX5_laysOrder_77 : decode cX5_laysOrder 77 = .ok (.istore 6, 2) := dk_54 6 (dk_at dksX5_laysOrder_3 5 rfl rfl)
theorem dX5_laysOrder_79 : decode cX5_laysOrder 79 = .ok (.iinc 7 1, 3) := dk_132 7 1 (dk_at dksX5_laysOrder_3 7 rfl rfl)
theorem dX5_laysOrder_82 : decode cX5_laysOrder 82 = .ok (.goto (-40), 3) := dk_167 255 216 (dk_at dksX5_laysOrder_3 10 rfl rfl)
theorem dX5_laysOrder_85 : decode cX5_laysOrder 85 = .ok (.iload 4, 2) := dk_21 4 (dk_at dksX5_laysOrder_3 13 rfl rfl)
theorem dX5_laysOrder_87 : decode cX5_laysOrder 87 = .ok (.iconst 1, 1) := dk_4 (dk_at dksX5_laysOrder_3 15 rfl rfl)
theorem dX5_laysOrder_88 : decode cX5_laysOrder 88 = .ok (.iload 7, 2) := dk_21 7 (dk_at dksX5_laysOrder_3 16 rfl rfl)
theorem dX5_laysOrder_90 : decode cX5_laysOrder 90 = .ok (.ishl, 1) := dk_120 (dk_at dksX5_laysOrder_3 18 rfl rfl)
theorem dX5_laysOrder_91 : decode cX5_laysOrder 91 = .ok (.ior, 1) := dk_128 (dk_at dksX5_laysOrder_3 19 rfl rfl)
theorem dX5_laysOrder_92 : decode cX5_laysOrder 92 = .ok (.istore 4, 2) := dk_54 4 (dk_at dksX5_laysOrder_3 20 rfl rfl)
theorem dX5_laysOrder_94 : decode cX5_laysOrder 94 = .ok (.aload_n 0, 1) := dk_42 (dk_at dksX5_laysOrder_3 22 rfl rfl)
theorem dX5_laysOrder_95 : decode cX5_laysOrder 95 = .ok (.getfield 94, 3) := dk_180 0 94 (dk_at dksX5_laysOrder_4 0 rfl rfl)
theorem dX5_laysOrder_98 : decode cX5_laysOrder 98 = .ok (.iload 5, 2) := dk_21 5 (dk_at dksX5_laysOrder_4 3 rfl rfl)
theorem dX5_laysOrder_100 : decode cX5_laysOrder 100 = .ok (.aload_n 0, 1) := dk_42 (dk_at dksX5_laysOrder_4 5 rfl rfl)
theorem dX5_laysOrder_101 : decode cX5_laysOrder 101 = .ok (.getfield 91, 3) := dk_180 0 91 (dk_at dksX5_laysOrder_4 6 rfl rfl)
theorem dX5_laysOrder_104 : decode cX5_laysOrder 104 = .ok (.iload 7, 2) := dk_21 7 (dk_at dksX5_laysOrder_4 9 rfl rfl)
theorem dX5_laysOrder_106 : decode cX5_laysOrder 106 = .ok (.iaload, 1) := dk_46 (dk_at dksX5_laysOrder_4 11 rfl rfl)
theorem dX5_laysOrder_107 : decode cX5_laysOrder 107 = .ok (.iastore, 1) := dk_79 (dk_at dksX5_laysOrder_4 12 rfl rfl)
theorem dX5_laysOrder_108 : decode cX5_laysOrder 108 = .ok (.iinc 5 1, 3) := dk_132 5 1 (dk_at dksX5_laysOrder_4 13 rfl rfl)
theorem dX5_laysOrder_111 : decode cX5_laysOrder 111 = .ok (.goto (-103), 3) := dk_167 255 153 (dk_at dksX5_laysOrder_4 16 rfl rfl)
theorem dX5_laysOrder_114 : decode cX5_laysOrder 114 = .ok (.return_, 1) := dk_177 (dk_at dksX5_laysOrder_4 19 rfl rfl)
abbrev cX5_eats : ByteArray := prog_23_method_53_code
def yX5_eats : MethodName := ⟨RX5, "eats", "(II)I"⟩
def dkwX5_eats_2 : List UInt8 := [4, 96, 181, 1, 58, 29, 172]
abbrev dktX5_eats_2 : List UInt8 := dkwX5_eats_2 ++ []
def dkwX5_eats_1 : List UInt8 := [46, 104, 28, 96, 92, 46, 29, 100, 79, 42, 180, 0, 88, 27, 92, 46, 29, 96, 79, 42, 89, 180, 1, 58]
abbrev dktX5_eats_1 : List UInt8 := dkwX5_eats_1 ++ dktX5_eats_2
def dkwX5_eats_0 : List UInt8 := [42, 27, 28, 182, 1, 81, 62, 29, 158, 0, 45, 42, 180, 0, 85, 5, 42, 180, 0, 7, 16, 114, 27, 96]
abbrev dktX5_eats_0 : List UInt8 := dkwX5_eats_0 ++ dktX5_eats_1
theorem dksX5_eats_0 : cX5_eats.data.toList.drop 0 = dktX5_eats_0 := by decide +kernel
theorem dksX5_eats_1 : cX5_eats.data.toList.drop 24 = dktX5_eats_1 := dk_seg dksX5_eats_0 24 rfl rfl
theorem dksX5_eats_2 : cX5_eats.data.toList.drop 48 = dktX5_eats_2 := dk_seg dksX5_eats_1 24 rfl rfl
theorem dX5_eats_0 : decode cX5_eats 0 = .ok (.aload_n 0, 1) := dk_42 (dk_at dksX5_eats_0 0 rfl rfl)
theorem dX5_eats_1 : decode cX5_eats 1 = .ok (.iload_n 1, 1) := dk_27 (dk_at dksX5_eats_0 1 rfl rfl)
theorem dX5_eats_2 : decode cX5_eats 2 = .ok (.iload_n 2, 1) := dk_28 (dk_at dksX5_eats_0 2 rfl rfl)
theorem dX5_eats_3 : decode cX5_eats 3 = .ok (.invokevirtual 337, 3) := dk_182 1 81 (dk_at dksX5_eats_0 3 rfl rfl)
theorem dX5_eats_6 : decode cX5_eats 6 = .ok (.istore_n 3, 1) := dk_62 (dk_at dksX5_eats_0 6 rfl rfl)
theorem dX5_eats_7 : decode cX5_eats 7 = .ok (.iload_n 3, 1) := dk_29 (dk_at dksX5_eats_0 7 rfl rfl)
theorem dX5_eats_8 : decode cX5_eats 8 = .ok (.ifCond .le 45, 3) := dk_158 0 45 (dk_at dksX5_eats_0 8 rfl rfl)
theorem dX5_eats_11 : decode cX5_eats 11 = .ok (.aload_n 0, 1) := dk_42 (dk_at dksX5_eats_0 11 rfl rfl)
theorem dX5_eats_12 : decode cX5_eats 12 = .ok (.getfield 85, 3) := dk_180 0 85 (dk_at dksX5_eats_0 12 rfl rfl)
theorem dX5_eats_15 : decode cX5_eats 15 = .ok (.iconst 2, 1) := dk_5 (dk_at dksX5_eats_0 15 rfl rfl)
theorem dX5_eats_16 : decode cX5_eats 16 = .ok (.aload_n 0, 1) := dk_42 (dk_at dksX5_eats_0 16 rfl rfl)
theorem dX5_eats_17 : decode cX5_eats 17 = .ok (.getfield 7, 3) := dk_180 0 7 (dk_at dksX5_eats_0 17 rfl rfl)
theorem dX5_eats_20 : decode cX5_eats 20 = .ok (.bipush 114, 2) := dk_16 114 (dk_at dksX5_eats_0 20 rfl rfl)
theorem dX5_eats_22 : decode cX5_eats 22 = .ok (.iload_n 1, 1) := dk_27 (dk_at dksX5_eats_0 22 rfl rfl)
theorem dX5_eats_23 : decode cX5_eats 23 = .ok (.iadd, 1) := dk_96 (dk_at dksX5_eats_0 23 rfl rfl)
theorem dX5_eats_24 : decode cX5_eats 24 = .ok (.iaload, 1) := dk_46 (dk_at dksX5_eats_1 0 rfl rfl)
theorem dX5_eats_25 : decode cX5_eats 25 = .ok (.imul, 1) := dk_104 (dk_at dksX5_eats_1 1 rfl rfl)
theorem dX5_eats_26 : decode cX5_eats 26 = .ok (.iload_n 2, 1) := dk_28 (dk_at dksX5_eats_1 2 rfl rfl)
theorem dX5_eats_27 : decode cX5_eats 27 = .ok (.iadd, 1) := dk_96 (dk_at dksX5_eats_1 3 rfl rfl)
theorem dX5_eats_28 : decode cX5_eats 28 = .ok (.dup2, 1) := dk_92 (dk_at dksX5_eats_1 4 rfl rfl)
theorem dX5_eats_29 : decode cX5_eats 29 = .ok (.iaload, 1) := dk_46 (dk_at dksX5_eats_1 5 rfl rfl)
theorem dX5_eats_30 : decode cX5_eats 30 = .ok (.iload_n 3, 1) := dk_29 (dk_at dksX5_eats_1 6 rfl rfl)
theorem dX5_eats_31 : decode cX5_eats 31 = .ok (.isub, 1) := dk_100 (dk_at dksX5_eats_1 7 rfl rfl)
theorem dX5_eats_32 : decode cX5_eats 32 = .ok (.iastore, 1) := dk_79 (dk_at dksX5_eats_1 8 rfl rfl)
theorem dX5_eats_33 : decode cX5_eats 33 = .ok (.aload_n 0, 1) := dk_42 (dk_at dksX5_eats_1 9 rfl rfl)
theorem dX5_eats_34 : decode cX5_eats 34 = .ok (.getfield 88, 3) := dk_180 0 88 (dk_at dksX5_eats_1 10 rfl rfl)
theorem dX5_eats_37 : decode cX5_eats 37 = .ok (.iload_n 1, 1) := dk_27 (dk_at dksX5_eats_1 13 rfl rfl)
theorem dX5_eats_38 : decode cX5_eats 38 = .ok (.dup2, 1) := dk_92 (dk_at dksX5_eats_1 14 rfl rfl)
theorem dX5_eats_39 : decode cX5_eats 39 = .ok (.iaload, 1) := dk_46 (dk_at dksX5_eats_1 15 rfl rfl)
theorem dX5_eats_40 : decode cX5_eats 40 = .ok (.iload_n 3, 1) := dk_29 (dk_at dksX5_eats_1 16 rfl rfl)
theorem dX5_eats_41 : decode cX5_eats 41 = .ok (.iadd, 1) := dk_96 (dk_at dksX5_eats_1 17 rfl rfl)
theorem dX5_eats_42 : decode cX5_eats 42 = .ok (.iastore, 1) := dk_79 (dk_at dksX5_eats_1 18 rfl rfl)
theorem dX5_eats_43 : decode cX5_eats 43 = .ok (.aload_n 0, 1) := dk_42 (dk_at dksX5_eats_1 19 rfl rfl)
theorem dX5_eats_44 : decode cX5_eats 44 = .ok (.dup, 1) := dk_89 (dk_at dksX5_eats_1 20 rfl rfl)
theorem dX5_eats_45 : decode cX5_eats 45 = .ok (.getfield 314, 3) := dk_180 1 58 (dk_at dksX5_eats_1 21 rfl rfl)
theorem dX5_eats_48 : decode cX5_eats 48 = .ok (.iconst 1, 1) := dk_4 (dk_at dksX5_eats_2 0 rfl rfl)
theorem dX5_eats_49 : decode cX5_eats 49 = .ok (.iadd, 1) := dk_96 (dk_at dksX5_eats_2 1 rfl rfl)
theorem dX5_eats_50 : decode cX5_eats 50 = .ok (.putfield 314, 3) := dk_181 1 58 (dk_at dksX5_eats_2 2 rfl rfl)
theorem dX5_eats_53 : decode cX5_eats 53 = .ok (.iload_n 3, 1) := dk_29 (dk_at dksX5_eats_2 5 rfl rfl)
theorem dX5_eats_54 : decode cX5_eats 54 = .ok (.ireturn, 1) := dk_172 (dk_at dksX5_eats_2 6 rfl rfl)
abbrev cX5_size : ByteArray := prog_23_method_67_code
def yX5_size : MethodName := ⟨RX5, "size", "(I)I"⟩
def dkwX5_size_0 : List UInt8 := [26, 156, 0, 8, 26, 116, 167, 0, 4, 26, 172]
abbrev dktX5_size_0 : List UInt8 := dkwX5_size_0 ++ []
theorem dksX5_size_0 : cX5_size.data.toList.drop 0 = dktX5_size_0 := by decide +kernel
theorem dX5_size_0 : decode cX5_size 0 = .ok (.iload_n 0, 1) := dk_26 (dk_at dksX5_size_0 0 rfl rfl)
theorem dX5_size_1 : decode cX5_size 1 = .ok (.ifCond .ge 8, 3) := dk_156 0 8 (dk_at dksX5_size_0 1 rfl rfl)
theorem dX5_size_4 : decode cX5_size 4 = .ok (.iload_n 0, 1) := dk_26 (dk_at dksX5_size_0 4 rfl rfl)
theorem dX5_size_5 : decode cX5_size 5 = .ok (.ineg, 1) := dk_116 (dk_at dksX5_size_0 5 rfl rfl)
theorem dX5_size_6 : decode cX5_size 6 = .ok (.goto 4, 3) := dk_167 0 4 (dk_at dksX5_size_0 6 rfl rfl)
theorem dX5_size_9 : decode cX5_size 9 = .ok (.iload_n 0, 1) := dk_26 (dk_at dksX5_size_0 9 rfl rfl)
theorem dX5_size_10 : decode cX5_size 10 = .ok (.ireturn, 1) := dk_172 (dk_at dksX5_size_0 10 rfl rfl)
abbrev cX5_acquitted : ByteArray := prog_23_method_70_code
def yX5_acquitted : MethodName := ⟨RX5, "acquitted", "(II)I"⟩
def dkwX5_acquitted_3 : List UInt8 := [167, 0, 9, 42, 180, 0, 103, 28, 46, 172]
abbrev dktX5_acquitted_3 : List UInt8 := dkwX5_acquitted_3 ++ []
def dkwX5_acquitted_2 : List UInt8 := [16, 253, 172, 28, 2, 160, 0, 7, 29, 167, 0, 22, 28, 16, 254, 160, 0, 10, 42, 180, 1, 126]
abbrev dktX5_acquitted_2 : List UInt8 := dkwX5_acquitted_2 ++ dktX5_acquitted_3
def dkwX5_acquitted_1 : List UInt8 := [27, 29, 182, 1, 129, 154, 0, 9, 132, 3, 1, 167, 255, 239, 29, 8, 159, 0, 8, 28, 29, 161, 0, 6]
abbrev dktX5_acquitted_1 : List UInt8 := dkwX5_acquitted_1 ++ dktX5_acquitted_2
def dkwX5_acquitted_0 : List UInt8 := [27, 184, 0, 114, 153, 0, 9, 28, 16, 254, 162, 0, 6, 16, 253, 172, 3, 62, 29, 8, 162, 0, 18, 42]
abbrev dktX5_acquitted_0 : List UInt8 := dkwX5_acquitted_0 ++ dktX5_acquitted_1
theorem dksX5_acquitted_0 : cX5_acquitted.data.toList.drop 0 = dktX5_acquitted_0 := by decide +kernel
theorem dksX5_acquitted_1 : cX5_acquitted.data.toList.drop 24 = dktX5_acquitted_1 := dk_seg dksX5_acquitted_0 24 rfl rfl
theorem dksX5_acquitted_2 : cX5_acquitted.data.toList.drop 48 = dktX5_acquitted_2 := dk_seg dksX5_acquitted_1 24 rfl rfl
theorem dksX5_acquitted_3 : cX5_acquitted.data.toList.drop 70 = dktX5_acquitted_3 := dk_seg dksX5_acquitted_2 22 rfl rfl
theorem dX5_acquitted_0 : decode cX5_acquitted 0 = .ok (.iload_n 1, 1) := dk_27 (dk_at dksX5_acquitted_0 0 rfl rfl)
theorem dX5_acquitted_1 : decode cX5_acquitted 1 = .ok (.invokestatic 114, 3) := dk_184 0 114 (dk_at dksX5_acquitted_0 1 rfl rfl)
theorem dX5_acquitted_4 : decode cX5_acquitted 4 = .ok (.ifCond .eq 9, 3) := dk_153 0 9 (dk_at dksX5_acquitted_0 4 rfl rfl)
theorem dX5_acquitted_7 : decode cX5_acquitted 7 = .ok (.iload_n 2, 1) := dk_28 (dk_at dksX5_acquitted_0 7 rfl rfl)
theorem dX5_acquitted_8 : decode cX5_acquitted 8 = .ok (.bipush (-2), 2) := dk_16 254 (dk_at dksX5_acquitted_0 8 rfl rfl)
theorem dX5_acquitted_10 : decode cX5_acquitted 10 = .ok (.if_icmp .ge 6, 3) := dk_162 0 6 (dk_at dksX5_acquitted_0 10 rfl rfl)
theorem dX5_acquitted_13 : decode cX5_acquitted 13 = .ok (.bipush (-3), 2) := dk_16 253 (dk_at dksX5_acquitted_0 13 rfl rfl)
theorem dX5_acquitted_15 : decode cX5_acquitted 15 = .ok (.ireturn, 1) := dk_172 (dk_at dksX5_acquitted_0 15 rfl rfl)
theorem dX5_acquitted_16 : decode cX5_acquitted 16 = .ok (.iconst 0, 1) := dk_3 (dk_at dksX5_acquitted_0 16 rfl rfl)
theorem dX5_acquitted_17 : decode cX5_acquitted 17 = .ok (.istore_n 3, 1) := dk_62 (dk_at dksX5_acquitted_0 17 rfl rfl)
theorem dX5_acquitted_18 : decode cX5_acquitted 18 = .ok (.iload_n 3, 1) := dk_29 (dk_at dksX5_acquitted_0 18 rfl rfl)
theorem dX5_acquitted_19 : decode cX5_acquitted 19 = .ok (.iconst 5, 1) := dk_8 (dk_at dksX5_acquitted_0 19 rfl rfl)
theorem dX5_acquitted_20 : decode cX5_acquitted 20 = .ok (.if_icmp .ge 18, 3) := dk_162 0 18 (dk_at dksX5_acquitted_0 20 rfl rfl)
theorem dX5_acquitted_23 : decode cX5_acquitted 23 = .ok (.aload_n 0, 1) := dk_42 (dk_at dksX5_acquitted_0 23 rfl rfl)
theorem dX5_acquitted_24 : decode cX5_acquitted 24 = .ok (.iload_n 1, 1) := dk_27 (dk_at dksX5_acquitted_1 0 rfl rfl)
theorem dX5_acquitted_25 : decode cX5_acquitted 25 = .ok (.iload_n 3, 1) := dk_29 (dk_at dksX5_acquitted_1 1 rfl rfl)
theorem dX5_acquitted_26 : decode cX5_acquitted 26 = .ok (.invokevirtual 385, 3) := dk_182 1 129 (dk_at dksX5_acquitted_1 2 rfl rfl)
theorem dX5_acquitted_29 : decode cX5_acquitted 29 = .ok (.ifCond .ne 9, 3) := dk_154 0 9 (dk_at dksX5_acquitted_1 5 rfl rfl)
theorem dX5_acquitted_32 : decode cX5_acquitted 32 = .ok (.iinc 3 1, 3) := dk_132 3 1 (dk_at dksX5_acquitted_1 8 rfl rfl)
theorem dX5_acquitted_35 : decode cX5_acquitted 35 = .ok (.goto (-17), 3) := dk_167 255 239 (dk_at dksX5_acquitted_1 11 rfl rfl)
theorem dX5_acquitted_38 : decode cX5_acquitted 38 = .ok (.iload_n 3, 1) := dk_29 (dk_at dksX5_acquitted_1 14 rfl rfl)
theorem dX5_acquitted_39 : decode cX5_acquitted 39 = .ok (.iconst 5, 1) := dk_8 (dk_at dksX5_acquitted_1 15 rfl rfl)
theorem dX5_acquitted_40 : decode cX5_acquitted 40 = .ok (.if_icmp .eq 8, 3) := dk_159 0 8 (dk_at dksX5_acquitted_1 16 rfl rfl)
theorem dX5_acquitted_43 : decode cX5_acquitted 43 = .ok (.iload_n 2, 1) := dk_28 (dk_at dksX5_acquitted_1 19 rfl rfl)
theorem dX5_acquitted_44 : decode cX5_acquitted 44 = .ok (.iload_n 3, 1) := dk_29 (dk_at dksX5_acquitted_1 20 rfl rfl)
theorem dX5_acquitted_45 : decode cX5_acquitted 45 = .ok (.if_icmp .lt 6, 3) := dk_161 0 6 (dk_at dksX5_acquitted_1 21 rfl rfl)
theorem dX5_acquitted_48 : decode cX5_acquitted 48 = .ok (.bipush (-3), 2) := dk_16 253 (dk_at dksX5_acquitted_2 0 rfl rfl)
theorem dX5_acquitted_50 : decode cX5_acquitted 50 = .ok (.ireturn, 1) := dk_172 (dk_at dksX5_acquitted_2 2 rfl rfl)
theorem dX5_acquitted_51 : decode cX5_acquitted 51 = .ok (.iload_n 2, 1) := dk_28 (dk_at dksX5_acquitted_2 3 rfl rfl)
theorem dX5_acquitted_52 : decode cX5_acquitted 52 = .ok (.iconst (-1), 1) := dk_2 (dk_at dksX5_acquitted_2 4 rfl rfl)
theorem dX5_acquitted_53 : decode cX5_acquitted 53 = .ok (.if_icmp .ne 7, 3) := dk_160 0 7 (dk_at dksX5_acquitted_2 5 rfl rfl)
theorem dX5_acquitted_56 : decode cX5_acquitted 56 = .ok (.iload_n 3, 1) := dk_29 (dk_at dksX5_acquitted_2 8 rfl rfl)
theorem dX5_acquitted_57 : decode cX5_acquitted 57 = .ok (.goto 22, 3) := dk_167 0 22 (dk_at dksX5_acquitted_2 9 rfl rfl)
theorem dX5_acquitted_60 : decode cX5_acquitted 60 = .ok (.iload_n 2, 1) := dk_28 (dk_at dksX5_acquitted_2 12 rfl rfl)
theorem dX5_acquitted_61 : decode cX5_acquitted 61 = .ok (.bipush (-2), 2) := dk_16 254 (dk_at dksX5_acquitted_2 13 rfl rfl)
theorem dX5_acquitted_63 : decode cX5_acquitted 63 = .ok (.if_icmp .ne 10, 3) := dk_160 0 10 (dk_at dksX5_acquitted_2 15 rfl rfl)
theorem dX5_acquitted_66 : decode cX5_acquitted 66 = .ok (.aload_n 0, 1) := dk_42 (dk_at dksX5_acquitted_2 18 rfl rfl)
theorem dX5_acquitted_67 : decode cX5_acquitted 67 = .ok (.getfield 382, 3) := dk_180 1 126 (dk_at dksX5_acquitted_2 19 rfl rfl)
theorem dX5_acquitted_70 : decode cX5_acquitted 70 = .ok (.goto 9, 3) := dk_167 0 9 (dk_at dksX5_acquitted_3 0 rfl rfl)
theorem dX5_acquitted_73 : decode cX5_acquitted 73 = .ok (.aload_n 0, 1) := dk_42 (dk_at dksX5_acquitted_3 3 rfl rfl)
theorem dX5_acquitted_74 : decode cX5_acquitted 74 = .ok (.getfield 103, 3) := dk_180 0 103 (dk_at dksX5_acquitted_3 4 rfl rfl)
theorem dX5_acquitted_77 : decode cX5_acquitted 77 = .ok (.iload_n 2, 1) := dk_28 (dk_at dksX5_acquitted_3 7 rfl rfl)
theorem dX5_acquitted_78 : decode cX5_acquitted 78 = .ok (.iaload, 1) := dk_46 (dk_at dksX5_acquitted_3 8 rfl rfl)
theorem dX5_acquitted_79 : decode cX5_acquitted 79 = .ok (.ireturn, 1) := dk_172 (dk_at dksX5_acquitted_3 9 rfl rfl)
abbrev cX5_acquits : ByteArray := prog_23_method_69_code
def yX5_acquits : MethodName := ⟨RX5, "acquits", "(II)Z"⟩
def dkwX5_acquits_11 : List UInt8 := [167, 0, 4, 3, 172]
abbrev dktX5_acquits_11 : List UInt8 := dkwX5_acquits_11 ++ []
def dkwX5_acquits_10 : List UInt8 := [46, 79, 132, 9, 1, 167, 255, 233, 132, 5, 1, 167, 255, 52, 42, 180, 1, 126, 2, 159, 0, 7, 4]
abbrev dktX5_acquits_10 : List UInt8 := dkwX5_acquits_10 ++ dktX5_acquits_11
def dkwX5_acquits_9 : List UInt8 := [181, 1, 126, 3, 54, 9, 21, 9, 28, 162, 0, 23, 42, 180, 0, 103, 21, 9, 42, 180, 0, 100, 21, 9]
abbrev dktX5_acquits_9 : List UInt8 := dkwX5_acquits_9 ++ dktX5_acquits_10
def dkwX5_acquits_8 : List UInt8 := [2, 159, 0, 12, 21, 7, 42, 180, 1, 126, 162, 0, 46, 42, 27, 182, 1, 96, 154, 0, 38, 42, 21, 7]
abbrev dktX5_acquits_8 : List UInt8 := dkwX5_acquits_8 ++ dktX5_acquits_9
def dkwX5_acquits_7 : List UInt8 := [180, 0, 85, 3, 46, 42, 180, 0, 85, 5, 46, 96, 100, 54, 7, 21, 8, 153, 0, 63, 42, 180, 1, 126]
abbrev dktX5_acquits_7 : List UInt8 := dkwX5_acquits_7 ++ dktX5_acquits_8
def dkwX5_acquits_6 : List UInt8 := [182, 1, 120, 158, 0, 7, 4, 167, 0, 4, 3, 54, 8, 132, 9, 1, 167, 255, 210, 21, 7, 42]
abbrev dktX5_acquits_6 : List UInt8 := dkwX5_acquits_6 ++ dktX5_acquits_7
def dkwX5_acquits_5 : List UInt8 := [153, 0, 41, 42, 42, 180, 0, 100, 21, 9, 46, 5, 108, 42, 180, 0, 100, 21, 9, 46, 5, 112]
abbrev dktX5_acquits_5 : List UInt8 := dkwX5_acquits_5 ++ dktX5_acquits_6
def dkwX5_acquits_4 : List UInt8 := [180, 0, 85, 5, 46, 96, 54, 7, 4, 54, 8, 3, 54, 9, 21, 9, 28, 162, 0, 46, 21, 8]
abbrev dktX5_acquits_4 : List UInt8 := dkwX5_acquits_4 ++ dktX5_acquits_5
def dkwX5_acquits_3 : List UInt8 := [79, 21, 6, 29, 108, 54, 6, 132, 7, 255, 167, 255, 231, 42, 182, 1, 93, 42, 180, 0, 85, 3, 46, 42]
abbrev dktX5_acquits_3 : List UInt8 := dkwX5_acquits_3 ++ dktX5_acquits_4
def dkwX5_acquits_2 : List UInt8 := [21, 5, 54, 6, 28, 4, 100, 54, 7, 21, 7, 155, 0, 26, 42, 180, 0, 100, 21, 7, 21, 6, 29, 112]
abbrev dktX5_acquits_2 : List UInt8 := dkwX5_acquits_2 ++ dktX5_acquits_3
def dkwX5_acquits_1 : List UInt8 := [104, 54, 4, 132, 5, 1, 167, 255, 241, 42, 2, 181, 1, 126, 3, 54, 5, 21, 5, 21, 4, 162, 0, 203]
abbrev dktX5_acquits_1 : List UInt8 := dkwX5_acquits_1 ++ dktX5_acquits_2
def dkwX5_acquits_0 : List UInt8 := [5, 42, 180, 0, 7, 3, 46, 104, 62, 4, 54, 4, 3, 54, 5, 21, 5, 28, 162, 0, 15, 21, 4, 29]
abbrev dktX5_acquits_0 : List UInt8 := dkwX5_acquits_0 ++ dktX5_acquits_1
theorem dksX5_acquits_0 : cX5_acquits.data.toList.drop 0 = dktX5_acquits_0 := by decide +kernel
theorem dksX5_acquits_1 : cX5_acquits.data.toList.drop 24 = dktX5_acquits_1 := dk_seg dksX5_acquits_0 24 rfl rfl
theorem dksX5_acquits_2 : cX5_acquits.data.toList.drop 48 = dktX5_acquits_2 := dk_seg dksX5_acquits_1 24 rfl rfl
theorem dksX5_acquits_3 : cX5_acquits.data.toList.drop 72 = dktX5_acquits_3 := dk_seg dksX5_acquits_2 24 rfl rfl
theorem dksX5_acquits_4 : cX5_acquits.data.toList.drop 96 = dktX5_acquits_4 := dk_seg dksX5_acquits_3 24 rfl rfl
theorem dksX5_acquits_5 : cX5_acquits.data.toList.drop 118 = dktX5_acquits_5 := dk_seg dksX5_acquits_4 22 rfl rfl
theorem dksX5_acquits_6 : cX5_acquits.data.toList.drop 140 = dktX5_acquits_6 := dk_seg dksX5_acquits_5 22 rfl rfl
theorem dksX5_acquits_7 : cX5_acquits.data.toList.drop 162 = dktX5_acquits_7 := dk_seg dksX5_acquits_6 22 rfl rfl
theorem dksX5_acquits_8 : cX5_acquits.data.toList.drop 186 = dktX5_acquits_8 := dk_seg dksX5_acquits_7 24 rfl rfl
theorem dksX5_acquits_9 : cX5_acquits.data.toList.drop 210 = dktX5_acquits_9 := dk_seg dksX5_acquits_8 24 rfl rfl
theorem dksX5_acquits_10 : cX5_acquits.data.toList.drop 234 = dktX5_acquits_10 := dk_seg dksX5_acquits_9 24 rfl rfl
theorem dksX5_acquits_11 : cX5_acquits.data.toList.drop 257 = dktX5_acquits_11 := dk_seg dksX5_acquits_10 23 rfl rfl
theorem dX5_acquits_0 : decode cX5_acquits 0 = .ok (.iconst 2, 1) := dk_5 (dk_at dksX5_acquits_0 0 rfl rfl)
theorem dX5_acquits_1 : decode cX5_acquits 1 = .ok (.aload_n 0, 1) := dk_42 (dk_at dksX5_acquits_0 1 rfl rfl)
theorem dX5_acquits_2 : decode cX5_acquits 2 = .ok (.getfield 7, 3) := dk_180 0 7 (dk_at dksX5_acquits_0 2 rfl rfl)
theorem dX5_acquits_5 : decode cX5_acquits 5 = .ok (.iconst 0, 1) := dk_3 (dk_at dksX5_acquits_0 5 rfl rfl)
theorem dX5_acquits_6 : decode cX5_acquits 6 = .ok (.iaload, 1) := dk_46 (dk_at dksX5_acquits_0 6 rfl rfl)
theorem dX5_acquits_7 : decode cX5_acquits 7 = .ok (.imul, 1) := dk_104 (dk_at dksX5_acquits_0 7 rfl rfl)
theorem dX5_acquits_8 : decode cX5_acquits 8 = .ok (.istore_n 3, 1) := dk_62 (dk_at dksX5_acquits_0 8 rfl rfl)
theorem dX5_acquits_9 : decode cX5_acquits 9 = .ok (.iconst 1, 1) := dk_4 (dk_at dksX5_acquits_0 9 rfl rfl)
theorem dX5_acquits_10 : decode cX5_acquits 10 = .ok (.istore 4, 2) := dk_54 4 (dk_at dksX5_acquits_0 10 rfl rfl)
theorem dX5_acquits_12 : decode cX5_acquits 12 = .ok (.iconst 0, 1) := dk_3 (dk_at dksX5_acquits_0 12 rfl rfl)
theorem dX5_acquits_13 : decode cX5_acquits 13 = .ok (.istore 5, 2) := dk_54 5 (dk_at dksX5_acquits_0 13 rfl rfl)
theorem dX5_acquits_15 : decode cX5_acquits 15 = .ok (.iload 5, 2) := dk_21 5 (dk_at dksX5_acquits_0 15 rfl rfl)
theorem dX5_acquits_17 : decode cX5_acquits 17 = .ok (.iload_n 2, 1) := dk_28 (dk_at dksX5_acquits_0 17 rfl rfl)
theorem dX5_acquits_18 : decode cX5_acquits 18 = .ok (.if_icmp .ge 15, 3) := dk_162 0 15 (dk_at dksX5_acquits_0 18 rfl rfl)
theorem dX5_acquits_21 : decode cX5_acquits 21 = .ok (.iload 4, 2) := dk_21 4 (dk_at dksX5_acquits_0 21 rfl rfl)
theorem dX5_acquits_23 : decode cX5_acquits 23 = .ok (.iload_n 3, 1) := dk_29 (dk_at dksX5_acquits_0 23 rfl rfl)
theorem dX5_acquits_24 : decode cX5_acquits 24 = .ok (.imul, 1) := dk_104 (dk_at dksX5_acquits_1 0 rfl rfl)
theorem dX5_acquits_25 : decode cX5_acquits 25 = .ok (.istore 4, 2) := dk_54 4 (dk_at dksX5_acquits_1 1 rfl rfl)
theorem dX5_acquits_27 : decode cX5_acquits 27 = .ok (.iinc 5 1, 3) := dk_132 5 1 (dk_at dksX5_acquits_1 3 rfl rfl)
theorem dX5_acquits_30 : decode cX5_acquits 30 = .ok (.goto (-15), 3) := dk_167 255 241 (dk_at dksX5_acquits_1 6 rfl rfl)
theorem dX5_acquits_33 : decode cX5_acquits 33 = .ok (.aload_n 0, 1) := dk_42 (dk_at dksX5_acquits_1 9 rfl rfl)
theorem dX5_acquits_34 : decode cX5_acquits 34 = .ok (.iconst (-1), 1) := dk_2 (dk_at dksX5_acquits_1 10 rfl rfl)
theorem dX5_acquits_35 : decode cX5_acquits 35 = .ok (.putfield 382, 3) := dk_181 1 126 (dk_at dksX5_acquits_1 11 rfl rfl)
theorem dX5_acquits_38 : decode cX5_acquits 38 = .ok (.iconst 0, 1) := dk_3 (dk_at dksX5_acquits_1 14 rfl rfl)
theorem dX5_acquits_39 : decode cX5_acquits 39 = .ok (.istore 5, 2) := dk_54 5 (dk_at dksX5_acquits_1 15 rfl rfl)
theorem dX5_acquits_41 : decode cX5_acquits 41 = .ok (.iload 5, 2) := dk_21 5 (dk_at dksX5_acquits_1 17 rfl rfl)
theorem dX5_acquits_43 : decode cX5_acquits 43 = .ok (.iload 4, 2) := dk_21 4 (dk_at dksX5_acquits_1 19 rfl rfl)
theorem dX5_acquits_45 : decode cX5_acquits 45 = .ok (.if_icmp .ge 203, 3) := dk_162 0 203 (dk_at dksX5_acquits_1 21 rfl rfl)
theorem dX5_acquits_48 : decode cX5_acquits 48 = .ok (.iload 5, 2) := dk_21 5 (dk_at dksX5_acquits_2 0 rfl rfl)
theorem dX5_acquits_50 : decode cX5_acquits 50 = .ok (.istore 6, 2) := dk_54 6 (dk_at dksX5_acquits_2 2 rfl rfl)
theorem dX5_acquits_52 : decode cX5_acquits 52 = .ok (.iload_n 2, 1) := dk_28 (dk_at dksX5_acquits_2 4 rfl rfl)
theorem dX5_acquits_53 : decode cX5_acquits 53 = .ok (.iconst 1, 1) := dk_4 (dk_at dksX5_acquits_2 5 rfl rfl)
theorem dX5_acquits_54 : decode cX5_acquits 54 = .ok (.isub, 1) := dk_100 (dk_at dksX5_acquits_2 6 rfl rfl)
theorem dX5_acquits_55 : decode cX5_acquits 55 = .ok (.istore 7, 2) := dk_54 7 (dk_at dksX5_acquits_2 7 rfl rfl)
theorem dX5_acquits_57 : decode cX5_acquits 57 = .ok (.iload 7, 2) := dk_21 7 (dk_at dksX5_acquits_2 9 rfl rfl)
theorem dX5_acquits_59 : decode cX5_acquits 59 = .ok (.ifCond .lt 26, 3) := dk_155 0 26 (dk_at dksX5_acquits_2 11 rfl rfl)
theorem dX5_acquits_62 : decode cX5_acquits 62 = .ok (.aload_n 0, 1) := dk_42 (dk_at dksX5_acquits_2 14 rfl rfl)
theorem dX5_acquits_63 : decode cX5_acquits 63 = .ok (.getfield 100, 3) := dk_180 0 100 (dk_at dksX5_acquits_2 15 rfl rfl)
theorem dX5_acquits_66 : decode cX5_acquits 66 = .ok (.iload 7, 2) := dk_21 7 (dk_at dksX5_acquits_2 18 rfl rfl)
theorem dX5_acquits_68 : decode cX5_acquits 68 = .ok (.iload 6, 2) := dk_21 6 (dk_at dksX5_acquits_2 20 rfl rfl)
theorem dX5_acquits_70 : decode cX5_acquits 70 = .ok (.iload_n 3, 1) := dk_29 (dk_at dksX5_acquits_2 22 rfl rfl)
theorem dX5_acquits_71 : decode cX5_acquits 71 = .ok (.irem, 1) := dk_112 (dk_at dksX5_acquits_2 23 rfl rfl)
theorem dX5_acquits_72 : decode cX5_acquits 72 = .ok (.iastore, 1) := dk_79 (dk_at dksX5_acquits_3 0 rfl rfl)
theorem dX5_acquits_73 : decode cX5_acquits 73 = .ok (.iload 6, 2) := dk_21 6 (dk_at dksX5_acquits_3 1 rfl rfl)
theorem dX5_acquits_75 : decode cX5_acquits 75 = .ok (.iload_n 3, 1) := dk_29 (dk_at dksX5_acquits_3 3 rfl rfl)
theorem dX5_acquits_76 : decode cX5_acquits 76 = .ok (.idiv, 1) := dk_108 (dk_at dksX5_acquits_3 4 rfl rfl)
theorem dX5_acquits_77 : decode cX5_acquits 77 = .ok (.istore 6, 2) := dk_54 6 (dk_at dksX5_acquits_3 5 rfl rfl)
theorem dX5_acquits_79 : decode cX5_acquits 79 = .ok (.iinc 7 (-1), 3) := dk_132 7 255 (dk_at dksX5_acquits_3 7 rfl rfl)
theorem dX5_acquits_82 : decode cX5_acquits 82 = .ok (.goto (-25), 3) := dk_167 255 231 (dk_at dksX5_acquits_3 10 rfl rfl)
theorem dX5_acquits_85 : decode cX5_acquits 85 = .ok (.aload_n 0, 1) := dk_42 (dk_at dksX5_acquits_3 13 rfl rfl)
theorem dX5_acquits_86 : decode cX5_acquits 86 = .ok (.invokevirtual 349, 3) := dk_182 1 93 (dk_at dksX5_acquits_3 14 rfl rfl)
theorem dX5_acquits_89 : decode cX5_acquits 89 = .ok (.aload_n 0, 1) := dk_42 (dk_at dksX5_acquits_3 17 rfl rfl)
theorem dX5_acquits_90 : decode cX5_acquits 90 = .ok (.getfield 85, 3) := dk_180 0 85 (dk_at dksX5_acquits_3 18 rfl rfl)
theorem dX5_acquits_93 : decode cX5_acquits 93 = .ok (.iconst 0, 1) := dk_3 (dk_at dksX5_acquits_3 21 rfl rfl)
theorem dX5_acquits_94 : decode cX5_acquits 94 = .ok (.iaload, 1) := dk_46 (dk_at dksX5_acquits_3 22 rfl rfl)
theorem dX5_acquits_95 : decode cX5_acquits 95 = .ok (.aload_n 0, 1) := dk_42 (dk_at dksX5_acquits_3 23 rfl rfl)
theorem dX5_acquits_96 : decode cX5_acquits 96 = .ok (.getfield 85, 3) := dk_180 0 85 (dk_at dksX5_acquits_4 0 rfl rfl)
theorem dX5_acquits_99 : decode cX5_acquits 99 = .ok (.iconst 2, 1) := dk_5 (dk_at dksX5_acquits_4 3 rfl rfl)
theorem dX5_acquits_100 : decode cX5_acquits 100 = .ok (.iaload, 1) := dk_46 (dk_at dksX5_acquits_4 4 rfl rfl)
theorem dX5_acquits_101 : decode cX5_acquits 101 = .ok (.iadd, 1) := dk_96 (dk_at dksX5_acquits_4 5 rfl rfl)
theorem dX5_acquits_102 : decode cX5_acquits 102 = .ok (.istore 7, 2) := dk_54 7 (dk_at dksX5_acquits_4 6 rfl rfl)
theorem dX5_acquits_104 : decode cX5_acquits 104 = .ok (.iconst 1, 1) := dk_4 (dk_at dksX5_acquits_4 8 rfl rfl)
theorem dX5_acquits_105 : decode cX5_acquits 105 = .ok (.istore 8, 2) := dk_54 8 (dk_at dksX5_acquits_4 9 rfl rfl)
theorem dX5_acquits_107 : decode cX5_acquits 107 = .ok (.iconst 0, 1) := dk_3 (dk_at dksX5_acquits_4 11 rfl rfl)
theorem dX5_acquits_108 : decode cX5_acquits 108 = .ok (.istore 9, 2) := dk_54 9 (dk_at dksX5_acquits_4 12 rfl rfl)
theorem dX5_acquits_110 : decode cX5_acquits 110 = .ok (.iload 9, 2) := dk_21 9 (dk_at dksX5_acquits_4 14 rfl rfl)
theorem dX5_acquits_112 : decode cX5_acquits 112 = .ok (.iload_n 2, 1) := dk_28 (dk_at dksX5_acquits_4 16 rfl rfl)
theorem dX5_acquits_113 : decode cX5_acquits 113 = .ok (.if_icmp .ge 46, 3) := dk_162 0 46 (dk_at dksX5_acquits_4 17 rfl rfl)
theorem dX5_acquits_116 : decode cX5_acquits 116 = .ok (.iload 8, 2) := dk_21 8 (dk_at dksX5_acquits_4 20 rfl rfl)
theorem dX5_acquits_118 : decode cX5_acquits 118 = .ok (.ifCond .eq 41, 3) := dk_153 0 41 (dk_at dksX5_acquits_5 0 rfl rfl)
theorem dX5_acquits_121 : decode cX5_acquits 121 = .ok (.aload_n 0, 1) := dk_42 (dk_at dksX5_acquits_5 3 rfl rfl)
theorem dX5_acquits_122 : decode cX5_acquits 122 = .ok (.aload_n 0, 1) := dk_42 (dk_at dksX5_acquits_5 4 rfl rfl)
theorem dX5_acquits_123 : decode cX5_acquits 123 = .ok (.getfield 100, 3) := dk_180 0 100 (dk_at dksX5_acquits_5 5 rfl rfl)
theorem dX5_acquits_126 : decode cX5_acquits 126 = .ok (.iload 9, 2) := dk_21 9 (dk_at dksX5_acquits_5 8 rfl rfl)
theorem dX5_acquits_128 : decode cX5_acquits 128 = .ok (.iaload, 1) := dk_46 (dk_at dksX5_acquits_5 10 rfl rfl)
theorem dX5_acquits_129 : decode cX5_acquits 129 = .ok (.iconst 2, 1) := dk_5 (dk_at dksX5_acquits_5 11 rfl rfl)
theorem dX5_acquits_130 : decode cX5_acquits 130 = .ok (.idiv, 1) := dk_108 (dk_at dksX5_acquits_5 12 rfl rfl)
theorem dX5_acquits_131 : decode cX5_acquits 131 = .ok (.aload_n 0, 1) := dk_42 (dk_at dksX5_acquits_5 13 rfl rfl)
theorem dX5_acquits_132 : decode cX5_acquits 132 = .ok (.getfield 100, 3) := dk_180 0 100 (dk_at dksX5_acquits_5 14 rfl rfl)
theorem dX5_acquits_135 : decode cX5_acquits 135 = .ok (.iload 9, 2) := dk_21 9 (dk_at dksX5_acquits_5 17 rfl rfl)
theorem dX5_acquits_137 : decode cX5_acquits 137 = .ok (.iaload, 1) := dk_46 (dk_at dksX5_acquits_5 19 rfl rfl)
theorem dX5_acquits_138 : decode cX5_acquits 138 = .ok (.iconst 2, 1) := dk_5 (dk_at dksX5_acquits_5 20 rfl rfl)
theorem dX5_acquits_139 : decode cX5_acquits 139 = .ok (.irem, 1) := dk_112 (dk_at dksX5_acquits_5 21 rfl rfl)
theorem dX5_acquits_140 : decode cX5_acquits 140 = .ok (.invokevirtual 376, 3) := dk_182 1 120 (dk_at dksX5_acquits_6 0 rfl rfl)
theorem dX5_acquits_143 : decode cX5_acquits 143 = .ok (.ifCond .le 7, 3) := dk_158 0 7 (dk_at dksX5_acquits_6 3 rfl rfl)
theorem dX5_acquits_146 : decode cX5_acquits 146 = .ok (.iconst 1, 1) := dk_4 (dk_at dksX5_acquits_6 6 rfl rfl)
theorem dX5_acquits_147 : decode cX5_acquits 147 = .ok (.goto 4, 3) := dk_167 0 4 (dk_at dksX5_acquits_6 7 rfl rfl)
theorem dX5_acquits_150 : decode cX5_acquits 150 = .ok (.iconst 0, 1) := dk_3 (dk_at dksX5_acquits_6 10 rfl rfl)
theorem dX5_acquits_151 : decode cX5_acquits 151 = .ok (.istore 8, 2) := dk_54 8 (dk_at dksX5_acquits_6 11 rfl rfl)
theorem dX5_acquits_153 : decode cX5_acquits 153 = .ok (.iinc 9 1, 3) := dk_132 9 1 (dk_at dksX5_acquits_6 13 rfl rfl)
theorem dX5_acquits_156 : decode cX5_acquits 156 = .ok (.goto (-46), 3) := dk_167 255 210 (dk_at dksX5_acquits_6 16 rfl rfl)
theorem dX5_acquits_159 : decode cX5_acquits 159 = .ok (.iload 7, 2) := dk_21 7 (dk_at dksX5_acquits_6 19 rfl rfl)
theorem dX5_acquits_161 : decode cX5_acquits 161 = .ok (.aload_n 0, 1) := dk_42 (dk_at dksX5_acquits_6 21 rfl rfl)
theorem dX5_acquits_162 : decode cX5_acquits 162 = .ok (.getfield 85, 3) := dk_180 0 85 (dk_at dksX5_acquits_7 0 rfl rfl)
theorem dX5_acquits_165 : decode cX5_acquits 165 = .ok (.iconst 0, 1) := dk_3 (dk_at dksX5_acquits_7 3 rfl rfl)
theorem dX5_acquits_166 : decode cX5_acquits 166 = .ok (.iaload, 1) := dk_46 (dk_at dksX5_acquits_7 4 rfl rfl)
theorem dX5_acquits_167 : decode cX5_acquits 167 = .ok (.aload_n 0, 1) := dk_42 (dk_at dksX5_acquits_7 5 rfl rfl)
theorem dX5_acquits_168 : decode cX5_acquits 168 = .ok (.getfield 85, 3) := dk_180 0 85 (dk_at dksX5_acquits_7 6 rfl rfl)
theorem dX5_acquits_171 : decode cX5_acquits 171 = .ok (.iconst 2, 1) := dk_5 (dk_at dksX5_acquits_7 9 rfl rfl)
theorem dX5_acquits_172 : decode cX5_acquits 172 = .ok (.iaload, 1) := dk_46 (dk_at dksX5_acquits_7 10 rfl rfl)
theorem dX5_acquits_173 : decode cX5_acquits 173 = .ok (.iadd, 1) := dk_96 (dk_at dksX5_acquits_7 11 rfl rfl)
theorem dX5_acquits_174 : decode cX5_acquits 174 = .ok (.isub, 1) := dk_100 (dk_at dksX5_acquits_7 12 rfl rfl)
theorem dX5_acquits_175 : decode cX5_acquits 175 = .ok (.istore 7, 2) := dk_54 7 (dk_at dksX5_acquits_7 13 rfl rfl)
theorem dX5_acquits_177 : decode cX5_acquits 177 = .ok (.iload 8, 2) := dk_21 8 (dk_at dksX5_acquits_7 15 rfl rfl)
theorem dX5_acquits_179 : decode cX5_acquits 179 = .ok (.ifCond .eq 63, 3) := dk_153 0 63 (dk_at dksX5_acquits_7 17 rfl rfl)
theorem dX5_acquits_182 : decode cX5_acquits 182 = .ok (.aload_n 0, 1) := dk_42 (dk_at dksX5_acquits_7 20 rfl rfl)
theorem dX5_acquits_183 : decode cX5_acquits 183 = .ok (.getfield 382, 3) := dk_180 1 126 (dk_at dksX5_acquits_7 21 rfl rfl)
theorem dX5_acquits_186 : decode cX5_acquits 186 = .ok (.iconst (-1), 1) := dk_2 (dk_at dksX5_acquits_8 0 rfl rfl)
theorem dX5_acquits_187 : decode cX5_acquits 187 = .ok (.if_icmp .eq 12, 3) := dk_159 0 12 (dk_at dksX5_acquits_8 1 rfl rfl)
theorem dX5_acquits_190 : decode cX5_acquits 190 = .ok (.iload 7, 2) := dk_21 7 (dk_at dksX5_acquits_8 4 rfl rfl)
theorem dX5_acquits_192 : decode cX5_acquits 192 = .ok (.aload_n 0, 1) := dk_42 (dk_at dksX5_acquits_8 6 rfl rfl)
theorem dX5_acquits_193 : decode cX5_acquits 193 = .ok (.getfield 382, 3) := dk_180 1 126 (dk_at dksX5_acquits_8 7 rfl rfl)
theorem dX5_acquits_196 : decode cX5_acquits 196 = .ok (.if_icmp .ge 46, 3) := dk_162 0 46 (dk_at dksX5_acquits_8 10 rfl rfl)
theorem dX5_acquits_199 : decode cX5_acquits 199 = .ok (.aload_n 0, 1) := dk_42 (dk_at dksX5_acquits_8 13 rfl rfl)
theorem dX5_acquits_200 : decode cX5_acquits 200 = .ok (.iload_n 1, 1) := dk_27 (dk_at dksX5_acquits_8 14 rfl rfl)
theorem dX5_acquits_201 : decode cX5_acquits 201 = .ok (.invokevirtual 352, 3) := dk_182 1 96 (dk_at dksX5_acquits_8 15 rfl rfl)
theorem dX5_acquits_204 : decode cX5_acquits 204 = .ok (.ifCond .ne 38, 3) := dk_154 0 38 (dk_at dksX5_acquits_8 18 rfl rfl)
theorem dX5_acquits_207 : decode cX5_acquits 207 = .ok (.aload_n 0, 1) := dk_42 (dk_at dksX5_acquits_8 21 rfl rfl)
theorem dX5_acquits_208 : decode cX5_acquits 208 = .ok (.iload 7, 2) := dk_21 7 (dk_at dksX5_acquits_8 22 rfl rfl)
theorem dX5_acquits_210 : decode cX5_acquits 210 = .ok (.putfield 382, 3) := dk_181 1 126 (dk_at dksX5_acquits_9 0 rfl rfl)
theorem dX5_acquits_213 : decode cX5_acquits 213 = .ok (.iconst 0, 1) := dk_3 (dk_at dksX5_acquits_9 3 rfl rfl)
theorem dX5_acquits_214 : decode cX5_acquits 214 = .ok (.istore 9, 2) := dk_54 9 (dk_at dksX5_acquits_9 4 rfl rfl)
theorem dX5_acquits_216 : decode cX5_acquits 216 = .ok (.iload 9, 2) := dk_21 9 (dk_at dksX5_acquits_9 6 rfl rfl)
theorem dX5_acquits_218 : decode cX5_acquits 218 = .ok (.iload_n 2, 1) := dk_28 (dk_at dksX5_acquits_9 8 rfl rfl)
theorem dX5_acquits_219 : decode cX5_acquits 219 = .ok (.if_icmp .ge 23, 3) := dk_162 0 23 (dk_at dksX5_acquits_9 9 rfl rfl)
theorem dX5_acquits_222 : decode cX5_acquits 222 = .ok (.aload_n 0, 1) := dk_42 (dk_at dksX5_acquits_9 12 rfl rfl)
theorem dX5_acquits_223 : decode cX5_acquits 223 = .ok (.getfield 103, 3) := dk_180 0 103 (dk_at dksX5_acquits_9 13 rfl rfl)
theorem dX5_acquits_226 : decode cX5_acquits 226 = .ok (.iload 9, 2) := dk_21 9 (dk_at dksX5_acquits_9 16 rfl rfl)
theorem dX5_acquits_228 : decode cX5_acquits 228 = .ok (.aload_n 0, 1) := dk_42 (dk_at dksX5_acquits_9 18 rfl rfl)
theorem dX5_acquits_229 : decode cX5_acquits 229 = .ok (.getfield 100, 3) := dk_180 0 100 (dk_at dksX5_acquits_9 19 rfl rfl)
theorem dX5_acquits_232 : decode cX5_acquits 232 = .ok (.iload 9, 2) := dk_21 9 (dk_at dksX5_acquits_9 22 rfl rfl)
theorem dX5_acquits_234 : decode cX5_acquits 234 = .ok (.iaload, 1) := dk_46 (dk_at dksX5_acquits_10 0 rfl rfl)
theorem dX5_acquits_235 : decode cX5_acquits 235 = .ok (.iastore, 1) := dk_79 (dk_at dksX5_acquits_10 1 rfl rfl)
theorem dX5_acquits_236 : decode cX5_acquits 236 = .ok (.iinc 9 1, 3) := dk_132 9 1 (dk_at dksX5_acquits_10 2 rfl rfl)
theorem dX5_acquits_239 : decode cX5_acquits 239 = .ok (.goto (-23), 3) := dk_167 255 233 (dk_at dksX5_acquits_10 5 rfl rfl)
theorem dX5_acquits_242 : decode cX5_acquits 242 = .ok (.iinc 5 1, 3) := dk_132 5 1 (dk_at dksX5_acquits_10 8 rfl rfl)
theorem dX5_acquits_245 : decode cX5_acquits 245 = .ok (.goto (-204), 3) := dk_167 255 52 (dk_at dksX5_acquits_10 11 rfl rfl)
theorem dX5_acquits_248 : decode cX5_acquits 248 = .ok (.aload_n 0, 1) := dk_42 (dk_at dksX5_acquits_10 14 rfl rfl)
theorem dX5_acquits_249 : decode cX5_acquits 249 = .ok (.getfield 382, 3) := dk_180 1 126 (dk_at dksX5_acquits_10 15 rfl rfl)
theorem dX5_acquits_252 : decode cX5_acquits 252 = .ok (.iconst (-1), 1) := dk_2 (dk_at dksX5_acquits_10 18 rfl rfl)
theorem dX5_acquits_253 : decode cX5_acquits 253 = .ok (.if_icmp .eq 7, 3) := dk_159 0 7 (dk_at dksX5_acquits_10 19 rfl rfl)
theorem dX5_acquits_256 : decode cX5_acquits 256 = .ok (.iconst 1, 1) := dk_4 (dk_at dksX5_acquits_10 22 rfl rfl)
theorem dX5_acquits_257 : decode cX5_acquits 257 = .ok (.goto 4, 3) := dk_167 0 4 (dk_at dksX5_acquits_11 0 rfl rfl)
theorem dX5_acquits_260 : decode cX5_acquits 260 = .ok (.iconst 0, 1) := dk_3 (dk_at dksX5_acquits_11 3 rfl rfl)
theorem dX5_acquits_261 : decode cX5_acquits 261 = .ok (.ireturn, 1) := dk_172 (dk_at dksX5_acquits_11 4 rfl rfl)
abbrev cX5_sets : ByteArray := prog_23_method_71_code
def yX5_sets : MethodName := ⟨RX5, "sets", "(IIII)I"⟩
def dkwX5_sets_6 : List UInt8 := [132, 5, 1, 132, 6, 1, 167, 255, 149, 21, 4, 2, 160, 0, 8, 21, 5, 167, 0, 4, 2, 172]
abbrev dktX5_sets_6 : List UInt8 := dkwX5_sets_6 ++ []
def dkwX5_sets_5 : List UInt8 := [42, 180, 0, 85, 5, 27, 104, 28, 96, 46, 29, 160, 0, 16, 21, 5, 21, 4, 160, 0, 6, 21, 6, 172]
abbrev dktX5_sets_5 : List UInt8 := dkwX5_sets_5 ++ dktX5_sets_6
def dkwX5_sets_4 : List UInt8 := [182, 1, 120, 158, 0, 7, 4, 167, 0, 4, 3, 54, 7, 132, 8, 1, 167, 255, 210, 21, 7, 153, 0, 30]
abbrev dktX5_sets_4 : List UInt8 := dkwX5_sets_4 ++ dktX5_sets_5
def dkwX5_sets_3 : List UInt8 := [162, 0, 41, 21, 7, 153, 0, 36, 21, 6, 21, 8, 122, 4, 126, 153, 0, 13, 42, 21, 8, 28]
abbrev dktX5_sets_3 : List UInt8 := dkwX5_sets_3 ++ dktX5_sets_4
def dkwX5_sets_2 : List UInt8 := [3, 46, 120, 162, 0, 100, 42, 182, 1, 93, 4, 54, 7, 3, 54, 8, 21, 8, 42, 180, 0, 7, 3, 46]
abbrev dktX5_sets_2 : List UInt8 := dkwX5_sets_2 ++ dktX5_sets_3
def dkwX5_sets_1 : List UInt8 := [153, 0, 9, 21, 4, 2, 162, 0, 5, 2, 172, 3, 54, 5, 3, 54, 6, 21, 6, 4, 42, 180, 0, 7]
abbrev dktX5_sets_1 : List UInt8 := dkwX5_sets_1 ++ dktX5_sets_2
def dkwX5_sets_0 : List UInt8 := [27, 184, 0, 114, 153, 0, 27, 28, 184, 0, 114, 153, 0, 20, 29, 3, 17, 3, 231, 184, 0, 110]
abbrev dktX5_sets_0 : List UInt8 := dkwX5_sets_0 ++ dktX5_sets_1
theorem dksX5_sets_0 : cX5_sets.data.toList.drop 0 = dktX5_sets_0 := by decide +kernel
theorem dksX5_sets_1 : cX5_sets.data.toList.drop 22 = dktX5_sets_1 := dk_seg dksX5_sets_0 22 rfl rfl
theorem dksX5_sets_2 : cX5_sets.data.toList.drop 46 = dktX5_sets_2 := dk_seg dksX5_sets_1 24 rfl rfl
theorem dksX5_sets_3 : cX5_sets.data.toList.drop 70 = dktX5_sets_3 := dk_seg dksX5_sets_2 24 rfl rfl
theorem dksX5_sets_4 : cX5_sets.data.toList.drop 92 = dktX5_sets_4 := dk_seg dksX5_sets_3 22 rfl rfl
theorem dksX5_sets_5 : cX5_sets.data.toList.drop 116 = dktX5_sets_5 := dk_seg dksX5_sets_4 24 rfl rfl
theorem dksX5_sets_6 : cX5_sets.data.toList.drop 140 = dktX5_sets_6 := dk_seg dksX5_sets_5 24 rfl rfl
theorem dX5_sets_0 : decode cX5_sets 0 = .ok (.iload_n 1, 1) := dk_27 (dk_at dksX5_sets_0 0 rfl rfl)
theorem dX5_sets_1 : decode cX5_sets 1 = .ok (.invokestatic 114, 3) := dk_184 0 114 (dk_at dksX5_sets_0 1 rfl rfl)
theorem dX5_sets_4 : decode cX5_sets 4 = .ok (.ifCond .eq 27, 3) := dk_153 0 27 (dk_at dksX5_sets_0 4 rfl rfl)
theorem dX5_sets_7 : decode cX5_sets 7 = .ok (.iload_n 2, 1) := dk_28 (dk_at dksX5_sets_0 7 rfl rfl)
theorem dX5_sets_8 : decode cX5_sets 8 = .ok (.invokestatic 114, 3) := dk_184 0 114 (dk_at dksX5_sets_0 8 rfl rfl)
theorem dX5_sets_11 : decode cX5_sets 11 = .ok (.ifCond .eq 20, 3) := dk_153 0 20 (dk_at dksX5_sets_0 11 rfl rfl)
theorem dX5_sets_14 : decode cX5_sets 14 = .ok (.iload_n 3, 1) := dk_29 (dk_at dksX5_sets_0 14 rfl rfl)
theorem dX5_sets_15 : decode cX5_sets 15 = .ok (.iconst 0, 1) := dk_3 (dk_at dksX5_sets_0 15 rfl rfl)
theorem dX5_sets_16 : decode cX5_sets 16 = .ok (.sipush 999, 3) := dk_17 3 231 (dk_at dksX5_sets_0 16 rfl rfl)
theorem dX5_sets_19 : decode cX5_sets 19 = .ok (.invokestatic 110, 3) := dk_184 0 110 (dk_at dksX5_sets_0 19 rfl rfl)
theorem dX5_sets_22 : decode cX5_sets 22 = .ok (.ifCond .eq 9, 3) := dk_153 0 9 (dk_at dksX5_sets_1 0 rfl rfl)
theorem dX5_sets_25 : decode cX5_sets 25 = .ok (.iload 4, 2) := dk_21 4 (dk_at dksX5_sets_1 3 rfl rfl)
theorem dX5_sets_27 : decode cX5_sets 27 = .ok (.iconst (-1), 1) := dk_2 (dk_at dksX5_sets_1 5 rfl rfl)
theorem dX5_sets_28 : decode cX5_sets 28 = .ok (.if_icmp .ge 5, 3) := dk_162 0 5 (dk_at dksX5_sets_1 6 rfl rfl)
theorem dX5_sets_31 : decode cX5_sets 31 = .ok (.iconst (-1), 1) := dk_2 (dk_at dksX5_sets_1 9 rfl rfl)
theorem dX5_sets_32 : decode cX5_sets 32 = .ok (.ireturn, 1) := dk_172 (dk_at dksX5_sets_1 10 rfl rfl)
theorem dX5_sets_33 : decode cX5_sets 33 = .ok (.iconst 0, 1) := dk_3 (dk_at dksX5_sets_1 11 rfl rfl)
theorem dX5_sets_34 : decode cX5_sets 34 = .ok (.istore 5, 2) := dk_54 5 (dk_at dksX5_sets_1 12 rfl rfl)
theorem dX5_sets_36 : decode cX5_sets 36 = .ok (.iconst 0, 1) := dk_3 (dk_at dksX5_sets_1 14 rfl rfl)
theorem dX5_sets_37 : decode cX5_sets 37 = .ok (.istore 6, 2) := dk_54 6 (dk_at dksX5_sets_1 15 rfl rfl)
theorem dX5_sets_39 : decode cX5_sets 39 = .ok (.iload 6, 2) := dk_21 6 (dk_at dksX5_sets_1 17 rfl rfl)
theorem dX5_sets_41 : decode cX5_sets 41 = .ok (.iconst 1, 1) := dk_4 (dk_at dksX5_sets_1 19 rfl rfl)
theorem dX5_sets_42 : decode cX5_sets 42 = .ok (.aload_n 0, 1) := dk_42 (dk_at dksX5_sets_1 20 rfl rfl)
theorem dX5_sets_43 : decode cX5_sets 43 = .ok (.getfield 7, 3) := dk_180 0 7 (dk_at dksX5_sets_1 21 rfl rfl)
theorem dX5_sets_46 : decode cX5_sets 46 = .ok (.iconst 0, 1) := dk_3 (dk_at dksX5_sets_2 0 rfl rfl)
theorem dX5_sets_47 : decode cX5_sets 47 = .ok (.iaload, 1) := dk_46 (dk_at dksX5_sets_2 1 rfl rfl)
theorem dX5_sets_48 : decode cX5_sets 48 = .ok (.ishl, 1) := dk_120 (dk_at dksX5_sets_2 2 rfl rfl)
theorem dX5_sets_49 : decode cX5_sets 49 = .ok (.if_icmp .ge 100, 3) := dk_162 0 100 (dk_at dksX5_sets_2 3 rfl rfl)
theorem dX5_sets_52 : decode cX5_sets 52 = .ok (.aload_n 0, 1) := dk_42 (dk_at dksX5_sets_2 6 rfl rfl)
theorem dX5_sets_53 : decode cX5_sets 53 = .ok (.invokevirtual 349, 3) := dk_182 1 93 (dk_at dksX5_sets_2 7 rfl rfl)
theorem dX5_sets_56 : decode cX5_sets 56 = .ok (.iconst 1, 1) := dk_4 (dk_at dksX5_sets_2 10 rfl rfl)
theorem dX5_sets_57 : decode cX5_sets 57 = .ok (.istore 7, 2) := dk_54 7 (dk_at dksX5_sets_2 11 rfl rfl)
theorem dX5_sets_59 : decode cX5_sets 59 = .ok (.iconst 0, 1) := dk_3 (dk_at dksX5_sets_2 13 rfl rfl)
theorem dX5_sets_60 : decode cX5_sets 60 = .ok (.istore 8, 2) := dk_54 8 (dk_at dksX5_sets_2 14 rfl rfl)
theorem dX5_sets_62 : decode cX5_sets 62 = .ok (.iload 8, 2) := dk_21 8 (dk_at dksX5_sets_2 16 rfl rfl)
theorem dX5_sets_64 : decode cX5_sets 64 = .ok (.aload_n 0, 1) := dk_42 (dk_at dksX5_sets_2 18 rfl rfl)
theorem dX5_sets_65 : decode cX5_sets 65 = .ok (.getfield 7, 3) := dk_180 0 7 (dk_at dksX5_sets_2 19 rfl rfl)
theorem dX5_sets_68 : decode cX5_sets 68 = .ok (.iconst 0, 1) := dk_3 (dk_at dksX5_sets_2 22 rfl rfl)
theorem dX5_sets_69 : decode cX5_sets 69 = .ok (.iaload, 1) := dk_46 (dk_at dksX5_sets_2 23 rfl rfl)
theorem dX5_sets_70 : decode cX5_sets 70 = .ok (.if_icmp .ge 41, 3) := dk_162 0 41 (dk_at dksX5_sets_3 0 rfl rfl)
theorem dX5_sets_73 : decode cX5_sets 73 = .ok (.iload 7, 2) := dk_21 7 (dk_at dksX5_sets_3 3 rfl rfl)
theorem dX5_sets_75 : decode cX5_sets 75 = .ok (.ifCond .eq 36, 3) := dk_153 0 36 (dk_at dksX5_sets_3 5 rfl rfl)
theorem dX5_sets_78 : decode cX5_sets 78 = .ok (.iload 6, 2) := dk_21 6 (dk_at dksX5_sets_3 8 rfl rfl)
theorem dX5_sets_80 : decode cX5_sets 80 = .ok (.iload 8, 2) := dk_21 8 (dk_at dksX5_sets_3 10 rfl rfl)
theorem dX5_sets_82 : decode cX5_sets 82 = .ok (.ishr, 1) := dk_122 (dk_at dksX5_sets_3 12 rfl rfl)
theorem dX5_sets_83 : decode cX5_sets 83 = .ok (.iconst 1, 1) := dk_4 (dk_at dksX5_sets_3 13 rfl rfl)
theorem dX5_sets_84 : decode cX5_sets 84 = .ok (.iand, 1) := dk_126 (dk_at dksX5_sets_3 14 rfl rfl)
theorem dX5_sets_85 : decode cX5_sets 85 = .ok (.ifCond .eq 13, 3) := dk_153 0 13 (dk_at dksX5_sets_3 15 rfl rfl)
theorem dX5_sets_88 : decode cX5_sets 88 = .ok (.aload_n 0, 1) := dk_42 (dk_at dksX5_sets_3 18 rfl rfl)
theorem dX5_sets_89 : decode cX5_sets 89 = .ok (.iload 8, 2) := dk_21 8 (dk_at dksX5_sets_3 19 rfl rfl)
theorem dX5_sets_91 : decode cX5_sets 91 = .ok (.iload_n 2, 1) := dk_28 (dk_at dksX5_sets_3 21 rfl rfl)
theorem dX5_sets_92 : decode cX5_sets 92 = .ok (.invokevirtual 376, 3) := dk_182 1 120 (dk_at dksX5_sets_4 0 rfl rfl)
theorem dX5_sets_95 : decode cX5_sets 95 = .ok (.ifCond .le 7, 3) := dk_158 0 7 (dk_at dksX5_sets_4 3 rfl rfl)
theorem dX5_sets_98 : decode cX5_sets 98 = .ok (.iconst 1, 1) := dk_4 (dk_at dksX5_sets_4 6 rfl rfl)
theorem dX5_sets_99 : decode cX5_sets 99 = .ok (.goto 4, 3) := dk_167 0 4 (dk_at dksX5_sets_4 7 rfl rfl)
theorem dX5_sets_102 : decode cX5_sets 102 = .ok (.iconst 0, 1) := dk_3 (dk_at dksX5_sets_4 10 rfl rfl)
theorem dX5_sets_103 : decode cX5_sets 103 = .ok (.istore 7, 2) := dk_54 7 (dk_at dksX5_sets_4 11 rfl rfl)
theorem dX5_sets_105 : decode cX5_sets 105 = .ok (.iinc 8 1, 3) := dk_132 8 1 (dk_at dksX5_sets_4 13 rfl rfl)
theorem dX5_sets_108 : decode cX5_sets 108 = .ok (.goto (-46), 3) := dk_167 255 210 (dk_at dksX5_sets_4 16 rfl rfl)
theorem dX5_sets_111 : decode cX5_sets 111 = .ok (.iload 7, 2) := dk_21 7 (dk_at dksX5_sets_4 19 rfl rfl)
theorem dX5_sets_113 : decode cX5_sets 113 = .ok (.ifCond .eq 30, 3) := dk_153 0 30 (dk_at dksX5_sets_4 21 rfl rfl)
theorem dX5_sets_116 : decode cX5_sets 116 = .ok (.aload_n 0, 1) := dk_42 (dk_at dksX5_sets_5 0 rfl rfl)
theorem dX5_sets_117 : decode cX5_sets 117 = .ok (.getfield 85, 3) := dk_180 0 85 (dk_at dksX5_sets_5 1 rfl rfl)
theorem dX5_sets_120 : decode cX5_sets 120 = .ok (.iconst 2, 1) := dk_5 (dk_at dksX5_sets_5 4 rfl rfl)
theorem dX5_sets_121 : decode cX5_sets 121 = .ok (.iload_n 1, 1) := dk_27 (dk_at dksX5_sets_5 5 rfl rfl)
theorem dX5_sets_122 : decode cX5_sets 122 = .ok (.imul, 1) := dk_104 (dk_at dksX5_sets_5 6 rfl rfl)
theorem dX5_sets_123 : decode cX5_sets 123 = .ok (.iload_n 2, 1) := dk_28 (dk_at dksX5_sets_5 7 rfl rfl)
theorem dX5_sets_124 : decode cX5_sets 124 = .ok (.iadd, 1) := dk_96 (dk_at dksX5_sets_5 8 rfl rfl)
theorem dX5_sets_125 : decode cX5_sets 125 = .ok (.iaload, 1) := dk_46 (dk_at dksX5_sets_5 9 rfl rfl)
theorem dX5_sets_126 : decode cX5_sets 126 = .ok (.iload_n 3, 1) := dk_29 (dk_at dksX5_sets_5 10 rfl rfl)
theorem dX5_sets_127 : decode cX5_sets 127 = .ok (.if_icmp .ne 16, 3) := dk_160 0 16 (dk_at dksX5_sets_5 11 rfl rfl)
theorem dX5_sets_130 : decode cX5_sets 130 = .ok (.iload 5, 2) := dk_21 5 (dk_at dksX5_sets_5 14 rfl rfl)
theorem dX5_sets_132 : decode cX5_sets 132 = .ok (.iload 4, 2) := dk_21 4 (dk_at dksX5_sets_5 16 rfl rfl)
theorem dX5_sets_134 : decode cX5_sets 134 = .ok (.if_icmp .ne 6, 3) := dk_160 0 6 (dk_at dksX5_sets_5 18 rfl rfl)
theorem dX5_sets_137 : decode cX5_sets 137 = .ok (.iload 6, 2) := dk_21 6 (dk_at dksX5_sets_5 21 rfl rfl)
theorem dX5_sets_139 : decode cX5_sets 139 = .ok (.ireturn, 1) := dk_172 (dk_at dksX5_sets_5 23 rfl rfl)
theorem dX5_sets_140 : decode cX5_sets 140 = .ok (.iinc 5 1, 3) := dk_132 5 1 (dk_at dksX5_sets_6 0 rfl rfl)
theorem dX5_sets_143 : decode cX5_sets 143 = .ok (.iinc 6 1, 3) := dk_132 6 1 (dk_at dksX5_sets_6 3 rfl rfl)
theorem dX5_sets_146 : decode cX5_sets 146 = .ok (.goto (-107), 3) := dk_167 255 149 (dk_at dksX5_sets_6 6 rfl rfl)
theorem dX5_sets_149 : decode cX5_sets 149 = .ok (.iload 4, 2) := dk_21 4 (dk_at dksX5_sets_6 9 rfl rfl)
theorem dX5_sets_151 : decode cX5_sets 151 = .ok (.iconst (-1), 1) := dk_2 (dk_at dksX5_sets_6 11 rfl rfl)
theorem dX5_sets_152 : decode cX5_sets 152 = .ok (.if_icmp .ne 8, 3) := dk_160 0 8 (dk_at dksX5_sets_6 12 rfl rfl)
theorem dX5_sets_155 : decode cX5_sets 155 = .ok (.iload 5, 2) := dk_21 5 (dk_at dksX5_sets_6 15 rfl rfl)
theorem dX5_sets_157 : decode cX5_sets 157 = .ok (.goto 4, 3) := dk_167 0 4 (dk_at dksX5_sets_6 17 rfl rfl)
theorem dX5_sets_160 : decode cX5_sets 160 = .ok (.iconst (-1), 1) := dk_2 (dk_at dksX5_sets_6 20 rfl rfl)
theorem dX5_sets_161 : decode cX5_sets 161 = .ok (.ireturn, 1) := dk_172 (dk_at dksX5_sets_6 21 rfl rfl)
abbrev cX5_tested : ByteArray := prog_23_method_72_code
def yX5_tested : MethodName := ⟨RX5, "tested", "(II)I"⟩
def dkwX5_tested_3 : List UInt8 := [180, 0, 7, 7, 92, 46, 4, 96, 79, 42, 180, 0, 7, 7, 46, 172]
abbrev dktX5_tested_3 : List UInt8 := dkwX5_tested_3 ++ []
def dkwX5_tested_2 : List UInt8 := [27, 79, 42, 180, 0, 7, 16, 40, 5, 42, 180, 0, 7, 7, 46, 104, 96, 4, 96, 28, 79, 42]
abbrev dktX5_tested_2 : List UInt8 := dkwX5_tested_2 ++ dktX5_tested_3
def dkwX5_tested_1 : List UInt8 := [7, 46, 16, 12, 160, 0, 5, 2, 172, 42, 180, 0, 7, 16, 40, 5, 42, 180, 0, 7, 7, 46, 104, 96]
abbrev dktX5_tested_1 : List UInt8 := dkwX5_tested_1 ++ dktX5_tested_2
def dkwX5_tested_0 : List UInt8 := [27, 16, 236, 16, 20, 184, 0, 110, 153, 0, 23, 28, 2, 4, 184, 0, 110, 153, 0, 14, 42, 180, 0, 7]
abbrev dktX5_tested_0 : List UInt8 := dkwX5_tested_0 ++ dktX5_tested_1
theorem dksX5_tested_0 : cX5_tested.data.toList.drop 0 = dktX5_tested_0 := by decide +kernel
theorem dksX5_tested_1 : cX5_tested.data.toList.drop 24 = dktX5_tested_1 := dk_seg dksX5_tested_0 24 rfl rfl
theorem dksX5_tested_2 : cX5_tested.data.toList.drop 48 = dktX5_tested_2 := dk_seg dksX5_tested_1 24 rfl rfl
theorem dksX5_tested_3 : cX5_tested.data.toList.drop 70 = dktX5_tested_3 := dk_seg dksX5_tested_2 22 rfl rfl
theorem dX5_tested_0 : decode cX5_tested 0 = .ok (.iload_n 1, 1) := dk_27 (dk_at dksX5_tested_0 0 rfl rfl)
theorem dX5_tested_1 : decode cX5_tested 1 = .ok (.bipush (-20), 2) := dk_16 236 (dk_at dksX5_tested_0 1 rfl rfl)
theorem dX5_tested_3 : decode cX5_tested 3 = .ok (.bipush 20, 2) := dk_16 20 (dk_at dksX5_tested_0 3 rfl rfl)
theorem dX5_tested_5 : decode cX5_tested 5 = .ok (.invokestatic 110, 3) := dk_184 0 110 (dk_at dksX5_tested_0 5 rfl rfl)
theorem dX5_tested_8 : decode cX5_tested 8 = .ok (.ifCond .eq 23, 3) := dk_153 0 23 (dk_at dksX5_tested_0 8 rfl rfl)
theorem dX5_tested_11 : decode cX5_tested 11 = .ok (.iload_n 2, 1) := dk_28 (dk_at dksX5_tested_0 11 rfl rfl)
theorem dX5_tested_12 : decode cX5_tested 12 = .ok (.iconst (-1), 1) := dk_2 (dk_at dksX5_tested_0 12 rfl rfl)
theorem dX5_tested_13 : decode cX5_tested 13 = .ok (.iconst 1, 1) := dk_4 (dk_at dksX5_tested_0 13 rfl rfl)
theorem dX5_tested_14 : decode cX5_tested 14 = .ok (.invokestatic 110, 3) := dk_184 0 110 (dk_at dksX5_tested_0 14 rfl rfl)
theorem dX5_tested_17 : decode cX5_tested 17 = .ok (.ifCond .eq 14, 3) := dk_153 0 14 (dk_at dksX5_tested_0 17 rfl rfl)
theorem dX5_tested_20 : decode cX5_tested 20 = .ok (.aload_n 0, 1) := dk_42 (dk_at dksX5_tested_0 20 rfl rfl)
theorem dX5_tested_21 : decode cX5_tested 21 = .ok (.getfield 7, 3) := dk_180 0 7 (dk_at dksX5_tested_0 21 rfl rfl)
theorem dX5_tested_24 : decode cX5_tested 24 = .ok (.iconst 4, 1) := dk_7 (dk_at dksX5_tested_1 0 rfl rfl)
theorem dX5_tested_25 : decode cX5_tested 25 = .ok (.iaload, 1) := dk_46 (dk_at dksX5_tested_1 1 rfl rfl)
theorem dX5_tested_26 : decode cX5_tested 26 = .ok (.bipush 12, 2) := dk_16 12 (dk_at dksX5_tested_1 2 rfl rfl)
theorem dX5_tested_28 : decode cX5_tested 28 = .ok (.if_icmp .ne 5, 3) := dk_160 0 5 (dk_at dksX5_tested_1 4 rfl rfl)
theorem dX5_tested_31 : decode cX5_tested 31 = .ok (.iconst (-1), 1) := dk_2 (dk_at dksX5_tested_1 7 rfl rfl)
theorem dX5_tested_32 : decode cX5_tested 32 = .ok (.ireturn, 1) := dk_172 (dk_at dksX5_tested_1 8 rfl rfl)
theorem dX5_tested_33 : decode cX5_tested 33 = .ok (.aload_n 0, 1) := dk_42 (dk_at dksX5_tested_1 9 rfl rfl)
theorem dX5_tested_34 : decode cX5_tested 34 = .ok (.getfield 7, 3) := dk_180 0 7 (dk_at dksX5_tested_1 10 rfl rfl)
theorem dX5_tested_37 : decode cX5_tested 37 = .ok (.bipush 40, 2) := dk_16 40 (dk_at dksX5_tested_1 13 rfl rfl)
theorem dX5_tested_39 : decode cX5_tested 39 = .ok (.iconst 2, 1) := dk_5 (dk_at dksX5_tested_1 15 rfl rfl)
theorem dX5_tested_40 : decode cX5_tested 40 = .ok (.aload_n 0, 1) := dk_42 (dk_at dksX5_tested_1 16 rfl rfl)
theorem dX5_tested_41 : decode cX5_tested 41 = .ok (.getfield 7, 3) := dk_180 0 7 (dk_at dksX5_tested_1 17 rfl rfl)
theorem dX5_tested_44 : decode cX5_tested 44 = .ok (.iconst 4, 1) := dk_7 (dk_at dksX5_tested_1 20 rfl rfl)
theorem dX5_tested_45 : decode cX5_tested 45 = .ok (.iaload, 1) := dk_46 (dk_at dksX5_tested_1 21 rfl rfl)
theorem dX5_tested_46 : decode cX5_tested 46 = .ok (.imul, 1) := dk_104 (dk_at dksX5_tested_1 22 rfl rfl)
theorem dX5_tested_47 : decode cX5_tested 47 = .ok (.iadd, 1) := dk_96 (dk_at dksX5_tested_1 23 rfl rfl)
theorem dX5_tested_48 : decode cX5_tested 48 = .ok (.iload_n 1, 1) := dk_27 (dk_at dksX5_tested_2 0 rfl rfl)
theorem dX5_tested_49 : decode cX5_tested 49 = .ok (.iastore, 1) := dk_79 (dk_at dksX5_tested_2 1 rfl rfl)
theorem dX5_tested_50 : decode cX5_tested 50 = .ok (.aload_n 0, 1) := dk_42 (dk_at dksX5_tested_2 2 rfl rfl)
theorem dX5_tested_51 : decode cX5_tested 51 = .ok (.getfield 7, 3) := dk_180 0 7 (dk_at dksX5_tested_2 3 rfl rfl)
theorem dX5_tested_54 : decode cX5_tested 54 = .ok (.bipush 40, 2) := dk_16 40 (dk_at dksX5_tested_2 6 rfl rfl)
theorem dX5_tested_56 : decode cX5_tested 56 = .ok (.iconst 2, 1) := dk_5 (dk_at dksX5_tested_2 8 rfl rfl)
theorem dX5_tested_57 : decode cX5_tested 57 = .ok (.aload_n 0, 1) := dk_42 (dk_at dksX5_tested_2 9 rfl rfl)
theorem dX5_tested_58 : decode cX5_tested 58 = .ok (.getfield 7, 3) := dk_180 0 7 (dk_at dksX5_tested_2 10 rfl rfl)
theorem dX5_tested_61 : decode cX5_tested 61 = .ok (.iconst 4, 1) := dk_7 (dk_at dksX5_tested_2 13 rfl rfl)
theorem dX5_tested_62 : decode cX5_tested 62 = .ok (.iaload, 1) := dk_46 (dk_at dksX5_tested_2 14 rfl rfl)
theorem dX5_tested_63 : decode cX5_tested 63 = .ok (.imul, 1) := dk_104 (dk_at dksX5_tested_2 15 rfl rfl)
theorem dX5_tested_64 : decode cX5_tested 64 = .ok (.iadd, 1) := dk_96 (dk_at dksX5_tested_2 16 rfl rfl)
theorem dX5_tested_65 : decode cX5_tested 65 = .ok (.iconst 1, 1) := dk_4 (dk_at dksX5_tested_2 17 rfl rfl)
theorem dX5_tested_66 : decode cX5_tested 66 = .ok (.iadd, 1) := dk_96 (dk_at dksX5_tested_2 18 rfl rfl)
theorem dX5_tested_67 : decode cX5_tested 67 = .ok (.iload_n 2, 1) := dk_28 (dk_at dksX5_tested_2 19 rfl rfl)
theorem dX5_tested_68 : decode cX5_tested 68 = .ok (.iastore, 1) := dk_79 (dk_at dksX5_tested_2 20 rfl rfl)
theorem dX5_tested_69 : decode cX5_tested 69 = .ok (.aload_n 0, 1) := dk_42 (dk_at dksX5_tested_2 21 rfl rfl)
theorem dX5_tested_70 : decode cX5_tested 70 = .ok (.getfield 7, 3) := dk_180 0 7 (dk_at dksX5_tested_3 0 rfl rfl)
theorem dX5_tested_73 : decode cX5_tested 73 = .ok (.iconst 4, 1) := dk_7 (dk_at dksX5_tested_3 3 rfl rfl)
theorem dX5_tested_74 : decode cX5_tested 74 = .ok (.dup2, 1) := dk_92 (dk_at dksX5_tested_3 4 rfl rfl)
theorem dX5_tested_75 : decode cX5_tested 75 = .ok (.iaload, 1) := dk_46 (dk_at dksX5_tested_3 5 rfl rfl)
theorem dX5_tested_76 : decode cX5_tested 76 = .ok (.iconst 1, 1) := dk_4 (dk_at dksX5_tested_3 6 rfl rfl)
theorem dX5_tested_77 : decode cX5_tested 77 = .ok (.iadd, 1) := dk_96 (dk_at dksX5_tested_3 7 rfl rfl)
theorem dX5_tested_78 : decode cX5_tested 78 = .ok (.iastore, 1) := dk_79 (dk_at dksX5_tested_3 8 rfl rfl)
theorem dX5_tested_79 : decode cX5_tested 79 = .ok (.aload_n 0, 1) := dk_42 (dk_at dksX5_tested_3 9 rfl rfl)
theorem dX5_tested_80 : decode cX5_tested 80 = .ok (.getfield 7, 3) := dk_180 0 7 (dk_at dksX5_tested_3 10 rfl rfl)
theorem dX5_tested_83 : decode cX5_tested 83 = .ok (.iconst 4, 1) := dk_7 (dk_at dksX5_tested_3 13 rfl rfl)
theorem dX5_tested_84 : decode cX5_tested 84 = .ok (.iaload, 1) := dk_46 (dk_at dksX5_tested_3 14 rfl rfl)
theorem dX5_tested_85 : decode cX5_tested 85 = .ok (.ireturn, 1) := dk_172 (dk_at dksX5_tested_3 15 rfl rfl)
abbrev cX5_fits : ByteArray := prog_23_method_74_code
def yX5_fits : MethodName := ⟨RX5, "fits", "()I"⟩
def dkwX5_fits_4 : List UInt8 := [167, 255, 168, 27, 172]
abbrev dktX5_fits_4 : List UInt8 := dkwX5_fits_4 ++ []
def dkwX5_fits_3 : List UInt8 := [132, 4, 1, 167, 255, 199, 27, 29, 153, 0, 9, 4, 28, 120, 167, 0, 4, 3, 128, 60, 132, 2, 1]
abbrev dktX5_fits_3 : List UInt8 := dkwX5_fits_3 ++ dktX5_fits_4
def dkwX5_fits_2 : List UInt8 := [180, 0, 7, 16, 40, 5, 21, 4, 104, 96, 4, 96, 46, 160, 0, 7, 4, 167, 0, 4, 3, 62]
abbrev dktX5_fits_2 : List UInt8 := dkwX5_fits_2 ++ dktX5_fits_3
def dkwX5_fits_1 : List UInt8 := [162, 0, 52, 29, 153, 0, 40, 42, 180, 0, 7, 16, 40, 5, 21, 4, 104, 96, 46, 28, 184, 1, 132, 42]
abbrev dktX5_fits_1 : List UInt8 := dkwX5_fits_1 ++ dktX5_fits_2
def dkwX5_fits_0 : List UInt8 := [3, 60, 3, 61, 28, 16, 10, 162, 0, 88, 4, 62, 3, 54, 4, 21, 4, 42, 180, 0, 7, 7, 46]
abbrev dktX5_fits_0 : List UInt8 := dkwX5_fits_0 ++ dktX5_fits_1
theorem dksX5_fits_0 : cX5_fits.data.toList.drop 0 = dktX5_fits_0 := by decide +kernel
theorem dksX5_fits_1 : cX5_fits.data.toList.drop 23 = dktX5_fits_1 := dk_seg dksX5_fits_0 23 rfl rfl
theorem dksX5_fits_2 : cX5_fits.data.toList.drop 47 = dktX5_fits_2 := dk_seg dksX5_fits_1 24 rfl rfl
theorem dksX5_fits_3 : cX5_fits.data.toList.drop 69 = dktX5_fits_3 := dk_seg dksX5_fits_2 22 rfl rfl
theorem dksX5_fits_4 : cX5_fits.data.toList.drop 92 = dktX5_fits_4 := dk_seg dksX5_fits_3 23 rfl rfl
theorem dX5_fits_0 : decode cX5_fits 0 = .ok (.iconst 0, 1) := dk_3 (dk_at dksX5_fits_0 0 rfl rfl)
theorem dX5_fits_1 : decode cX5_fits 1 = .ok (.istore_n 1, 1) := dk_60 (dk_at dksX5_fits_0 1 rfl rfl)
theorem dX5_fits_2 : decode cX5_fits 2 = .ok (.iconst 0, 1) := dk_3 (dk_at dksX5_fits_0 2 rfl rfl)
theorem dX5_fits_3 : decode cX5_fits 3 = .ok (.istore_n 2, 1) := dk_61 (dk_at dksX5_fits_0 3 rfl rfl)
theorem dX5_fits_4 : decode cX5_fits 4 = .ok (.iload_n 2, 1) := dk_28 (dk_at dksX5_fits_0 4 rfl rfl)
theorem dX5_fits_5 : decode cX5_fits 5 = .ok (.bipush 10, 2) := dk_16 10 (dk_at dksX5_fits_0 5 rfl rfl)
theorem dX5_fits_7 : decode cX5_fits 7 = .ok (.if_icmp .ge 88, 3) := dk_162 0 88 (dk_at dksX5_fits_0 7 rfl rfl)
theorem dX5_fits_10 : decode cX5_fits 10 = .ok (.iconst 1, 1) := dk_4 (dk_at dksX5_fits_0 10 rfl rfl)
theorem dX5_fits_11 : decode cX5_fits 11 = .ok (.istore_n 3, 1) := dk_62 (dk_at dksX5_fits_0 11 rfl rfl)
theorem dX5_fits_12 : decode cX5_fits 12 = .ok (.iconst 0, 1) := dk_3 (dk_at dksX5_fits_0 12 rfl rfl)
theorem dX5_fits_13 : decode cX5_fits 13 = .ok (.istore 4, 2) := dk_54 4 (dk_at dksX5_fits_0 13 rfl rfl)
theorem dX5_fits_15 : decode cX5_fits 15 = .ok (.iload 4, 2) := dk_21 4 (dk_at dksX5_fits_0 15 rfl rfl)
theorem dX5_fits_17 : decode cX5_fits 17 = .ok (.aload_n 0, 1) := dk_42 (dk_at dksX5_fits_0 17 rfl rfl)
theorem dX5_fits_18 : decode cX5_fits 18 = .ok (.getfield 7, 3) := dk_180 0 7 (dk_at dksX5_fits_0 18 rfl rfl)
theorem dX5_fits_21 : decode cX5_fits 21 = .ok (.iconst 4, 1) := dk_7 (dk_at dksX5_fits_0 21 rfl rfl)
theorem dX5_fits_22 : decode cX5_fits 22 = .ok (.iaload, 1) := dk_46 (dk_at dksX5_fits_0 22 rfl rfl)
theorem dX5_fits_23 : decode cX5_fits 23 = .ok (.if_icmp .ge 52, 3) := dk_162 0 52 (dk_at dksX5_fits_1 0 rfl rfl)
theorem dX5_fits_26 : decode cX5_fits 26 = .ok (.iload_n 3, 1) := dk_29 (dk_at dksX5_fits_1 3 rfl rfl)
theorem dX5_fits_27 : decode cX5_fits 27 = .ok (.ifCond .eq 40, 3) := dk_153 0 40 (dk_at dksX5_fits_1 4 rfl rfl)
theorem dX5_fits_30 : decode cX5_fits 30 = .ok (.aload_n 0, 1) := dk_42 (dk_at dksX5_fits_1 7 rfl rfl)
theorem dX5_fits_31 : decode cX5_fits 31 = .ok (.getfield 7, 3) := dk_180 0 7 (dk_at dksX5_fits_1 8 rfl rfl)
theorem dX5_fits_34 : decode cX5_fits 34 = .ok (.bipush 40, 2) := dk_16 40 (dk_at dksX5_fits_1 11 rfl rfl)
theorem dX5_fits_36 : decode cX5_fits 36 = .ok (.iconst 2, 1) := dk_5 (dk_at dksX5_fits_1 13 rfl rfl)
theorem dX5_fits_37 : decode cX5_fits 37 = .ok (.iload 4, 2) := dk_21 4 (dk_at dksX5_fits_1 14 rfl rfl)
theorem dX5_fits_39 : decode cX5_fits 39 = .ok (.imul, 1) := dk_104 (dk_at dksX5_fits_1 16 rfl rfl)
theorem dX5_fits_40 : decode cX5_fits 40 = .ok (.iadd, 1) := dk_96 (dk_at dksX5_fits_1 17 rfl rfl)
theorem dX5_fits_41 : decode cX5_fits 41 = .ok (.iaload, 1) := dk_46 (dk_at dksX5_fits_1 18 rfl rfl)
theorem dX5_fits_42 : decode cX5_fits 42 = .ok (.iload_n 2, 1) := dk_28 (dk_at dksX5_fits_1 19 rfl rfl)
theorem dX5_fits_43 : decode cX5_fits 43 = .ok (.invokestatic 388, 3) := dk_184 1 132 (dk_at dksX5_fits_1 20 rfl rfl)
theorem dX5_fits_46 : decode cX5_fits 46 = .ok (.aload_n 0, 1) := dk_42 (dk_at dksX5_fits_1 23 rfl rfl)
theorem dX5_fits_47 : decode cX5_fits 47 = .ok (.getfield 7, 3) := dk_180 0 7 (dk_at dksX5_fits_2 0 rfl rfl)
theorem dX5_fits_50 : decode cX5_fits 50 = .ok (.bipush 40, 2) := dk_16 40 (dk_at dksX5_fits_2 3 rfl rfl)
theorem dX5_fits_52 : decode cX5_fits 52 = .ok (.iconst 2, 1) := dk_5 (dk_at dksX5_fits_2 5 rfl rfl)
theorem dX5_fits_53 : decode cX5_fits 53 = .ok (.iload 4, 2) := dk_21 4 (dk_at dksX5_fits_2 6 rfl rfl)
theorem dX5_fits_55 : decode cX5_fits 55 = .ok (.imul, 1) := dk_104 (dk_at dksX5_fits_2 8 rfl rfl)
theorem dX5_fits_56 : decode cX5_fits 56 = .ok (.iadd, 1) := dk_96 (dk_at dksX5_fits_2 9 rfl rfl)
theorem dX5_fits_57 : decode cX5_fits 57 = .ok (.iconst 1, 1) := dk_4 (dk_at dksX5_fits_2 10 rfl rfl)
theorem dX5_fits_58 : decode cX5_fits 58 = .ok (.iadd, 1) := dk_96 (dk_at dksX5_fits_2 11 rfl rfl)
theorem dX5_fits_59 : decode cX5_fits 59 = .ok (.iaload, 1) := dk_46 (dk_at dksX5_fits_2 12 rfl rfl)
theorem dX5_fits_60 : decode cX5_fits 60 = .ok (.if_icmp .ne 7, 3) := dk_160 0 7 (dk_at dksX5_fits_2 13 rfl rfl)
theorem dX5_fits_63 : decode cX5_fits 63 = .ok (.iconst 1, 1) := dk_4 (dk_at dksX5_fits_2 16 rfl rfl)
theorem dX5_fits_64 : decode cX5_fits 64 = .ok (.goto 4, 3) := dk_167 0 4 (dk_at dksX5_fits_2 17 rfl rfl)
theorem dX5_fits_67 : decode cX5_fits 67 = .ok (.iconst 0, 1) := dk_3 (dk_at dksX5_fits_2 20 rfl rfl)
theorem dX5_fits_68 : decode cX5_fits 68 = .ok (.istore_n 3, 1) := dk_62 (dk_at dksX5_fits_2 21 rfl rfl)
theorem dX5_fits_69 : decode cX5_fits 69 = .ok (.iinc 4 1, 3) := dk_132 4 1 (dk_at dksX5_fits_3 0 rfl rfl)
theorem dX5_fits_72 : decode cX5_fits 72 = .ok (.goto (-57), 3) := dk_167 255 199 (dk_at dksX5_fits_3 3 rfl rfl)
theorem dX5_fits_75 : decode cX5_fits 75 = .ok (.iload_n 1, 1) := dk_27 (dk_at dksX5_fits_3 6 rfl rfl)
theorem dX5_fits_76 : decode cX5_fits 76 = .ok (.iload_n 3, 1) := dk_29 (dk_at dksX5_fits_3 7 rfl rfl)
theorem dX5_fits_77 : decode cX5_fits 77 = .ok (.ifCond .eq 9, 3) := dk_153 0 9 (dk_at dksX5_fits_3 8 rfl rfl)
theorem dX5_fits_80 : decode cX5_fits 80 = .ok (.iconst 1, 1) := dk_4 (dk_at dksX5_fits_3 11 rfl rfl)
theorem dX5_fits_81 : decode cX5_fits 81 = .ok (.iload_n 2, 1) := dk_28 (dk_at dksX5_fits_3 12 rfl rfl)
theorem dX5_fits_82 : decode cX5_fits 82 = .ok (.ishl, 1) := dk_120 (dk_at dksX5_fits_3 13 rfl rfl)
theorem dX5_fits_83 : decode cX5_fits 83 = .ok (.goto 4, 3) := dk_167 0 4 (dk_at dksX5_fits_3 14 rfl rfl)
theorem dX5_fits_86 : decode cX5_fits 86 = .ok (.iconst 0, 1) := dk_3 (dk_at dksX5_fits_3 17 rfl rfl)
theorem dX5_fits_87 : decode cX5_fits 87 = .ok (.ior, 1) := dk_128 (dk_at dksX5_fits_3 18 rfl rfl)
theorem dX5_fits_88 : decode cX5_fits 88 = .ok (.istore_n 1, 1) := dk_60 (dk_at dksX5_fits_3 19 rfl rfl)
theorem dX5_fits_89 : decode cX5_fits 89 = .ok (.iinc 2 1, 3) := dk_132 2 1 (dk_at dksX5_fits_3 20 rfl rfl)
theorem dX5_fits_92 : decode cX5_fits 92 = .ok (.goto (-88), 3) := dk_167 255 168 (dk_at dksX5_fits_4 0 rfl rfl)
theorem dX5_fits_95 : decode cX5_fits 95 = .ok (.iload_n 1, 1) := dk_27 (dk_at dksX5_fits_4 3 rfl rfl)
theorem dX5_fits_96 : decode cX5_fits 96 = .ok (.ireturn, 1) := dk_172 (dk_at dksX5_fits_4 4 rfl rfl)
abbrev cX5_hangs : ByteArray := prog_23_method_73_code
def yX5_hangs : MethodName := ⟨RX5, "hangs", "(II)I"⟩
def dkwX5_hangs_0 : List UInt8 := [26, 27, 96, 158, 0, 7, 4, 167, 0, 14, 26, 27, 96, 156, 0, 7, 2, 167, 0, 4, 3, 172]
abbrev dktX5_hangs_0 : List UInt8 := dkwX5_hangs_0 ++ []
theorem dksX5_hangs_0 : cX5_hangs.data.toList.drop 0 = dktX5_hangs_0 := by decide +kernel
theorem dX5_hangs_0 : decode cX5_hangs 0 = .ok (.iload_n 0, 1) := dk_26 (dk_at dksX5_hangs_0 0 rfl rfl)
theorem dX5_hangs_1 : decode cX5_hangs 1 = .ok (.iload_n 1, 1) := dk_27 (dk_at dksX5_hangs_0 1 rfl rfl)
theorem dX5_hangs_2 : decode cX5_hangs 2 = .ok (.iadd, 1) := dk_96 (dk_at dksX5_hangs_0 2 rfl rfl)
theorem dX5_hangs_3 : decode cX5_hangs 3 = .ok (.ifCond .le 7, 3) := dk_158 0 7 (dk_at dksX5_hangs_0 3 rfl rfl)
theorem dX5_hangs_6 : decode cX5_hangs 6 = .ok (.iconst 1, 1) := dk_4 (dk_at dksX5_hangs_0 6 rfl rfl)
theorem dX5_hangs_7 : decode cX5_hangs 7 = .ok (.goto 14, 3) := dk_167 0 14 (dk_at dksX5_hangs_0 7 rfl rfl)
theorem dX5_hangs_10 : decode cX5_hangs 10 = .ok (.iload_n 0, 1) := dk_26 (dk_at dksX5_hangs_0 10 rfl rfl)
theorem dX5_hangs_11 : decode cX5_hangs 11 = .ok (.iload_n 1, 1) := dk_27 (dk_at dksX5_hangs_0 11 rfl rfl)
theorem dX5_hangs_12 : decode cX5_hangs 12 = .ok (.iadd, 1) := dk_96 (dk_at dksX5_hangs_0 12 rfl rfl)
theorem dX5_hangs_13 : decode cX5_hangs 13 = .ok (.ifCond .ge 7, 3) := dk_156 0 7 (dk_at dksX5_hangs_0 13 rfl rfl)
theorem dX5_hangs_16 : decode cX5_hangs 16 = .ok (.iconst (-1), 1) := dk_2 (dk_at dksX5_hangs_0 16 rfl rfl)
theorem dX5_hangs_17 : decode cX5_hangs 17 = .ok (.goto 4, 3) := dk_167 0 4 (dk_at dksX5_hangs_0 17 rfl rfl)
theorem dX5_hangs_20 : decode cX5_hangs 20 = .ok (.iconst 0, 1) := dk_3 (dk_at dksX5_hangs_0 20 rfl rfl)
theorem dX5_hangs_21 : decode cX5_hangs 21 = .ok (.ireturn, 1) := dk_172 (dk_at dksX5_hangs_0 21 rfl rfl)
abbrev cX5_next : ByteArray := prog_23_method_76_code
def yX5_next : MethodName := ⟨RX5, "next", "()I"⟩
def dkwX5_next_2 : List UInt8 := [132, 4, 1, 167, 255, 222, 28, 172]
abbrev dktX5_next_2 : List UInt8 := dkwX5_next_2 ++ []
def dkwX5_next_1 : List UInt8 := [153, 0, 29, 27, 21, 4, 184, 1, 138, 54, 5, 21, 5, 29, 162, 0, 9, 21, 5, 62, 21, 4, 61]
abbrev dktX5_next_1 : List UInt8 := dkwX5_next_1 ++ dktX5_next_2
def dkwX5_next_0 : List UInt8 := [42, 182, 1, 135, 60, 16, 157, 61, 16, 11, 62, 16, 236, 54, 4, 21, 4, 16, 21, 162, 0, 33, 27]
abbrev dktX5_next_0 : List UInt8 := dkwX5_next_0 ++ dktX5_next_1
theorem dksX5_next_0 : cX5_next.data.toList.drop 0 = dktX5_next_0 := by decide +kernel
theorem dksX5_next_1 : cX5_next.data.toList.drop 23 = dktX5_next_1 := dk_seg dksX5_next_0 23 rfl rfl
theorem dksX5_next_2 : cX5_next.data.toList.drop 46 = dktX5_next_2 := dk_seg dksX5_next_1 23 rfl rfl
theorem dX5_next_0 : decode cX5_next 0 = .ok (.aload_n 0, 1) := dk_42 (dk_at dksX5_next_0 0 rfl rfl)
theorem dX5_next_1 : decode cX5_next 1 = .ok (.invokevirtual 391, 3) := dk_182 1 135 (dk_at dksX5_next_0 1 rfl rfl)
theorem dX5_next_4 : decode cX5_next 4 = .ok (.istore_n 1, 1) := dk_60 (dk_at dksX5_next_0 4 rfl rfl)
theorem dX5_next_5 : decode cX5_next 5 = .ok (.bipush (-99), 2) := dk_16 157 (dk_at dksX5_next_0 5 rfl rfl)
theorem dX5_next_7 : decode cX5_next 7 = .ok (.istore_n 2, 1) := dk_61 (dk_at dksX5_next_0 7 rfl rfl)
theorem dX5_next_8 : decode cX5_next 8 = .ok (.bipush 11, 2) := dk_16 11 (dk_at dksX5_next_0 8 rfl rfl)
theorem dX5_next_10 : decode cX5_next 10 = .ok (.istore_n 3, 1) := dk_62 (dk_at dksX5_next_0 10 rfl rfl)
theorem dX5_next_11 : decode cX5_next 11 = .ok (.bipush (-20), 2) := dk_16 236 (dk_at dksX5_next_0 11 rfl rfl)
theorem dX5_next_13 : decode cX5_next 13 = .ok (.istore 4, 2) := dk_54 4 (dk_at dksX5_next_0 13 rfl rfl)
theorem dX5_next_15 : decode cX5_next 15 = .ok (.iload 4, 2) := dk_21 4 (dk_at dksX5_next_0 15 rfl rfl)
theorem dX5_next_17 : decode cX5_next 17 = .ok (.bipush 21, 2) := dk_16 21 (dk_at dksX5_next_0 17 rfl rfl)
theorem dX5_next_19 : decode cX5_next 19 = .ok (.if_icmp .ge 33, 3) := dk_162 0 33 (dk_at dksX5_next_0 19 rfl rfl)
theorem dX5_next_22 : decode cX5_next 22 = .ok (.iload_n 1, 1) := dk_27 (dk_at dksX5_next_0 22 rfl rfl)
theorem dX5_next_23 : decode cX5_next 23 = .ok (.ifCond .eq 29, 3) := dk_153 0 29 (dk_at dksX5_next_1 0 rfl rfl)
theorem dX5_next_26 : decode cX5_next 26 = .ok (.iload_n 1, 1) := dk_27 (dk_at dksX5_next_1 3 rfl rfl)
theorem dX5_next_27 : decode cX5_next 27 = .ok (.iload 4, 2) := dk_21 4 (dk_at dksX5_next_1 4 rfl rfl)
theorem dX5_next_29 : decode cX5_next 29 = .ok (.invokestatic 394, 3) := dk_184 1 138 (dk_at dksX5_next_1 6 rfl rfl)
theorem dX5_next_32 : decode cX5_next 32 = .ok (.istore 5, 2) := dk_54 5 (dk_at dksX5_next_1 9 rfl rfl)
theorem dX5_next_34 : decode cX5_next 34 = .ok (.iload 5, 2) := dk_21 5 (dk_at dksX5_next_1 11 rfl rfl)
theorem dX5_next_36 : decode cX5_next 36 = .ok (.iload_n 3, 1) := dk_29 (dk_at dksX5_next_1 13 rfl rfl)
theorem dX5_next_37 : decode cX5_next 37 = .ok (.if_icmp .ge 9, 3) := dk_162 0 9 (dk_at dksX5_next_1 14 rfl rfl)
theorem dX5_next_40 : decode cX5_next 40 = .ok (.iload 5, 2) := dk_21 5 (dk_at dksX5_next_1 17 rfl rfl)
theorem dX5_next_42 : decode cX5_next 42 = .ok (.istore_n 3, 1) := dk_62 (dk_at dksX5_next_1 19 rfl rfl)
theorem dX5_next_43 : decode cX5_next 43 = .ok (.iload 4, 2) := dk_21 4 (dk_at dksX5_next_1 20 rfl rfl)
theorem dX5_next_45 : decode cX5_next 45 = .ok (.istore_n 2, 1) := dk_61 (dk_at dksX5_next_1 22 rfl rfl)
theorem dX5_next_46 : decode cX5_next 46 = .ok (.iinc 4 1, 3) := dk_132 4 1 (dk_at dksX5_next_2 0 rfl rfl)
theorem dX5_next_49 : decode cX5_next 49 = .ok (.goto (-34), 3) := dk_167 255 222 (dk_at dksX5_next_2 3 rfl rfl)
theorem dX5_next_52 : decode cX5_next 52 = .ok (.iload_n 2, 1) := dk_28 (dk_at dksX5_next_2 6 rfl rfl)
theorem dX5_next_53 : decode cX5_next 53 = .ok (.ireturn, 1) := dk_172 (dk_at dksX5_next_2 7 rfl rfl)
abbrev cX5_mostAlike : ByteArray := prog_23_method_75_code
def yX5_mostAlike : MethodName := ⟨RX5, "mostAlike", "(II)I"⟩
def dkwX5_mostAlike_3 : List UInt8 := [132, 3, 1, 167, 255, 186, 28, 172]
abbrev dktX5_mostAlike_3 : List UInt8 := dkwX5_mostAlike_3 ++ []
def dkwX5_mostAlike_2 : List UInt8 := [3, 96, 54, 4, 132, 5, 1, 167, 255, 216, 21, 4, 28, 164, 0, 8, 21, 4, 167, 0, 4, 28, 61]
abbrev dktX5_mostAlike_2 : List UInt8 := dkwX5_mostAlike_2 ++ dktX5_mostAlike_3
def dkwX5_mostAlike_1 : List UInt8 := [26, 21, 5, 122, 4, 126, 4, 160, 0, 17, 27, 21, 5, 184, 1, 132, 29, 160, 0, 7, 4, 167, 0, 4]
abbrev dktX5_mostAlike_1 : List UInt8 := dkwX5_mostAlike_1 ++ dktX5_mostAlike_2
def dkwX5_mostAlike_0 : List UInt8 := [3, 61, 2, 62, 29, 5, 162, 0, 71, 3, 54, 4, 3, 54, 5, 21, 5, 16, 10, 162, 0, 39, 21, 4]
abbrev dktX5_mostAlike_0 : List UInt8 := dkwX5_mostAlike_0 ++ dktX5_mostAlike_1
theorem dksX5_mostAlike_0 : cX5_mostAlike.data.toList.drop 0 = dktX5_mostAlike_0 := by decide +kernel
theorem dksX5_mostAlike_1 : cX5_mostAlike.data.toList.drop 24 = dktX5_mostAlike_1 := dk_seg dksX5_mostAlike_0 24 rfl rfl
theorem dksX5_mostAlike_2 : cX5_mostAlike.data.toList.drop 48 = dktX5_mostAlike_2 := dk_seg dksX5_mostAlike_1 24 rfl rfl
theorem dksX5_mostAlike_3 : cX5_mostAlike.data.toList.drop 71 = dktX5_mostAlike_3 := dk_seg dksX5_mostAlike_2 23 rfl rfl
theorem dX5_mostAlike_0 : decode cX5_mostAlike 0 = .ok (.iconst 0, 1) := dk_3 (dk_at dksX5_mostAlike_0 0 rfl rfl)
theorem dX5_mostAlike_1 : decode cX5_mostAlike 1 = .ok (.istore_n 2, 1) := dk_61 (dk_at dksX5_mostAlike_0 1 rfl rfl)
theorem dX5_mostAlike_2 : decode cX5_mostAlike 2 = .ok (.iconst (-1), 1) := dk_2 (dk_at dksX5_mostAlike_0 2 rfl rfl)
theorem dX5_mostAlike_3 : decode cX5_mostAlike 3 = .ok (.istore_n 3, 1) := dk_62 (dk_at dksX5_mostAlike_0 3 rfl rfl)
theorem dX5_mostAlike_4 : decode cX5_mostAlike 4 = .ok (.iload_n 3, 1) := dk_29 (dk_at dksX5_mostAlike_0 4 rfl rfl)
theorem dX5_mostAlike_5 : decode cX5_mostAlike 5 = .ok (.iconst 2, 1) := dk_5 (dk_at dksX5_mostAlike_0 5 rfl rfl)
theorem dX5_mostAlike_6 : decode cX5_mostAlike 6 = .ok (.if_icmp .ge 71, 3) := dk_162 0 71 (dk_at dksX5_mostAlike_0 6 rfl rfl)
theorem dX5_mostAlike_9 : decode cX5_mostAlike 9 = .ok (.iconst 0, 1) := dk_3 (dk_at dksX5_mostAlike_0 9 rfl rfl)
theorem dX5_mostAlike_10 : decode cX5_mostAlike 10 = .ok (.istore 4, 2) := dk_54 4 (dk_at dksX5_mostAlike_0 10 rfl rfl)
theorem dX5_mostAlike_12 : decode cX5_mostAlike 12 = .ok (.iconst 0, 1) := dk_3 (dk_at dksX5_mostAlike_0 12 rfl rfl)
theorem dX5_mostAlike_13 : decode cX5_mostAlike 13 = .ok (.istore 5, 2) := dk_54 5 (dk_at dksX5_mostAlike_0 13 rfl rfl)
theorem dX5_mostAlike_15 : decode cX5_mostAlike 15 = .ok (.iload 5, 2) := dk_21 5 (dk_at dksX5_mostAlike_0 15 rfl rfl)
theorem dX5_mostAlike_17 : decode cX5_mostAlike 17 = .ok (.bipush 10, 2) := dk_16 10 (dk_at dksX5_mostAlike_0 17 rfl rfl)
theorem dX5_mostAlike_19 : decode cX5_mostAlike 19 = .ok (.if_icmp .ge 39, 3) := dk_162 0 39 (dk_at dksX5_mostAlike_0 19 rfl rfl)
theorem dX5_mostAlike_22 : decode cX5_mostAlike 22 = .ok (.iload 4, 2) := dk_21 4 (dk_at dksX5_mostAlike_0 22 rfl rfl)
theorem dX5_mostAlike_24 : decode cX5_mostAlike 24 = .ok (.iload_n 0, 1) := dk_26 (dk_at dksX5_mostAlike_1 0 rfl rfl)
theorem dX5_mostAlike_25 : decode cX5_mostAlike 25 = .ok (.iload 5, 2) := dk_21 5 (dk_at dksX5_mostAlike_1 1 rfl rfl)
theorem dX5_mostAlike_27 : decode cX5_mostAlike 27 = .ok (.ishr, 1) := dk_122 (dk_at dksX5_mostAlike_1 3 rfl rfl)
theorem dX5_mostAlike_28 : decode cX5_mostAlike 28 = .ok (.iconst 1, 1) := dk_4 (dk_at dksX5_mostAlike_1 4 rfl rfl)
theorem dX5_mostAlike_29 : decode cX5_mostAlike 29 = .ok (.iand, 1) := dk_126 (dk_at dksX5_mostAlike_1 5 rfl rfl)
theorem dX5_mostAlike_30 : decode cX5_mostAlike 30 = .ok (.iconst 1, 1) := dk_4 (dk_at dksX5_mostAlike_1 6 rfl rfl)
theorem dX5_mostAlike_31 : decode cX5_mostAlike 31 = .ok (.if_icmp .ne 17, 3) := dk_160 0 17 (dk_at dksX5_mostAlike_1 7 rfl rfl)
theorem dX5_mostAlike_34 : decode cX5_mostAlike 34 = .ok (.iload_n 1, 1) := dk_27 (dk_at dksX5_mostAlike_1 10 rfl rfl)
theorem dX5_mostAlike_35 : decode cX5_mostAlike 35 = .ok (.iload 5, 2) := dk_21 5 (dk_at dksX5_mostAlike_1 11 rfl rfl)
theorem dX5_mostAlike_37 : decode cX5_mostAlike 37 = .ok (.invokestatic 388, 3) := dk_184 1 132 (dk_at dksX5_mostAlike_1 13 rfl rfl)
theorem dX5_mostAlike_40 : decode cX5_mostAlike 40 = .ok (.iload_n 3, 1) := dk_29 (dk_at dksX5_mostAlike_1 16 rfl rfl)
theorem dX5_mostAlike_41 : decode cX5_mostAlike 41 = .ok (.if_icmp .ne 7, 3) := dk_160 0 7 (dk_at dksX5_mostAlike_1 17 rfl rfl)
theorem dX5_mostAlike_44 : decode cX5_mostAlike 44 = .ok (.iconst 1, 1) := dk_4 (dk_at dksX5_mostAlike_1 20 rfl rfl)
theorem dX5_mostAlike_45 : decode cX5_mostAlike 45 = .ok (.goto 4, 3) := dk_167 0 4 (dk_at dksX5_mostAlike_1 21 rfl rfl)
theorem dX5_mostAlike_48 : decode cX5_mostAlike 48 = .ok (.iconst 0, 1) := dk_3 (dk_at dksX5_mostAlike_2 0 rfl rfl)
theorem dX5_mostAlike_49 : decode cX5_mostAlike 49 = .ok (.iadd, 1) := dk_96 (dk_at dksX5_mostAlike_2 1 rfl rfl)
theorem dX5_mostAlike_50 : decode cX5_mostAlike 50 = .ok (.istore 4, 2) := dk_54 4 (dk_at dksX5_mostAlike_2 2 rfl rfl)
theorem dX5_mostAlike_52 : decode cX5_mostAlike 52 = .ok (.iinc 5 1, 3) := dk_132 5 1 (dk_at dksX5_mostAlike_2 4 rfl rfl)
theorem dX5_mostAlike_55 : decode cX5_mostAlike 55 = .ok (.goto (-40), 3) := dk_167 255 216 (dk_at dksX5_mostAlike_2 7 rfl rfl)
theorem dX5_mostAlike_58 : decode cX5_mostAlike 58 = .ok (.iload 4, 2) := dk_21 4 (dk_at dksX5_mostAlike_2 10 rfl rfl)
theorem dX5_mostAlike_60 : decode cX5_mostAlike 60 = .ok (.iload_n 2, 1) := dk_28 (dk_at dksX5_mostAlike_2 12 rfl rfl)
theorem dX5_mostAlike_61 : decode cX5_mostAlike 61 = .ok (.if_icmp .le 8, 3) := dk_164 0 8 (dk_at dksX5_mostAlike_2 13 rfl rfl)
theorem dX5_mostAlike_64 : decode cX5_mostAlike 64 = .ok (.iload 4, 2) := dk_21 4 (dk_at dksX5_mostAlike_2 16 rfl rfl)
theorem dX5_mostAlike_66 : decode cX5_mostAlike 66 = .ok (.goto 4, 3) := dk_167 0 4 (dk_at dksX5_mostAlike_2 18 rfl rfl)
theorem dX5_mostAlike_69 : decode cX5_mostAlike 69 = .ok (.iload_n 2, 1) := dk_28 (dk_at dksX5_mostAlike_2 21 rfl rfl)
theorem dX5_mostAlike_70 : decode cX5_mostAlike 70 = .ok (.istore_n 2, 1) := dk_61 (dk_at dksX5_mostAlike_2 22 rfl rfl)
theorem dX5_mostAlike_71 : decode cX5_mostAlike 71 = .ok (.iinc 3 1, 3) := dk_132 3 1 (dk_at dksX5_mostAlike_3 0 rfl rfl)
theorem dX5_mostAlike_74 : decode cX5_mostAlike 74 = .ok (.goto (-70), 3) := dk_167 255 186 (dk_at dksX5_mostAlike_3 3 rfl rfl)
theorem dX5_mostAlike_77 : decode cX5_mostAlike 77 = .ok (.iload_n 2, 1) := dk_28 (dk_at dksX5_mostAlike_3 6 rfl rfl)
theorem dX5_mostAlike_78 : decode cX5_mostAlike 78 = .ok (.ireturn, 1) := dk_172 (dk_at dksX5_mostAlike_3 7 rfl rfl)
abbrev cX5_hired : ByteArray := prog_23_method_77_code
def yX5_hired : MethodName := ⟨RX5, "hired", "(I)I"⟩
def dkwX5_hired_6 : List UInt8 := [162, 0, 13, 21, 5, 61, 21, 7, 62, 21, 8, 54, 4, 132, 5, 1, 167, 255, 127, 28, 172]
abbrev dktX5_hired_6 : List UInt8 := dkwX5_hired_6 ++ []
def dkwX5_hired_5 : List UInt8 := [161, 0, 37, 28, 2, 159, 0, 22, 21, 7, 29, 161, 0, 16, 21, 7, 29, 160, 0, 20, 21, 8, 21, 4]
abbrev dktX5_hired_5 : List UInt8 := dkwX5_hired_5 ++ dktX5_hired_6
def dkwX5_hired_4 : List UInt8 := [21, 9, 104, 96, 5, 96, 46, 96, 54, 7, 132, 8, 1, 132, 9, 1, 167, 255, 198, 21, 6, 27]
abbrev dktX5_hired_4 : List UInt8 := dkwX5_hired_4 ++ dktX5_hired_5
def dkwX5_hired_3 : List UInt8 := [160, 0, 36, 21, 6, 42, 21, 9, 182, 1, 75, 96, 54, 6, 21, 7, 42, 180, 0, 7, 16, 10, 6]
abbrev dktX5_hired_3 : List UInt8 := dkwX5_hired_3 ++ dktX5_hired_4
def dkwX5_hired_2 : List UInt8 := [54, 8, 3, 54, 9, 21, 9, 42, 180, 0, 7, 3, 46, 162, 0, 53, 21, 5, 21, 9, 122, 4, 126, 4]
abbrev dktX5_hired_2 : List UInt8 := dkwX5_hired_2 ++ dktX5_hired_3
def dkwX5_hired_1 : List UInt8 := [4, 54, 5, 21, 5, 4, 42, 180, 0, 7, 3, 46, 120, 162, 0, 122, 3, 54, 6, 3, 54, 7, 3]
abbrev dktX5_hired_1 : List UInt8 := dkwX5_hired_1 ++ dktX5_hired_2
def dkwX5_hired_0 : List UInt8 := [27, 4, 17, 39, 15, 184, 0, 110, 154, 0, 5, 2, 172, 42, 182, 1, 93, 2, 61, 3, 62, 3, 54, 4]
abbrev dktX5_hired_0 : List UInt8 := dkwX5_hired_0 ++ dktX5_hired_1
theorem dksX5_hired_0 : cX5_hired.data.toList.drop 0 = dktX5_hired_0 := by decide +kernel
theorem dksX5_hired_1 : cX5_hired.data.toList.drop 24 = dktX5_hired_1 := dk_seg dksX5_hired_0 24 rfl rfl
theorem dksX5_hired_2 : cX5_hired.data.toList.drop 47 = dktX5_hired_2 := dk_seg dksX5_hired_1 23 rfl rfl
theorem dksX5_hired_3 : cX5_hired.data.toList.drop 71 = dktX5_hired_3 := dk_seg dksX5_hired_2 24 rfl rfl
theorem dksX5_hired_4 : cX5_hired.data.toList.drop 94 = dktX5_hired_4 := dk_seg dksX5_hired_3 23 rfl rfl
theorem dksX5_hired_5 : cX5_hired.data.toList.drop 116 = dktX5_hired_5 := dk_seg dksX5_hired_4 22 rfl rfl
theorem dksX5_hired_6 : cX5_hired.data.toList.drop 140 = dktX5_hired_6 := dk_seg dksX5_hired_5 24 rfl rfl
theorem dX5_hired_0 : decode cX5_hired 0 = .ok (.iload_n 1, 1) := dk_27 (dk_at dksX5_hired_0 0 rfl rfl)
theorem dX5_hired_1 : decode cX5_hired 1 = .ok (.iconst 1, 1) := dk_4 (dk_at dksX5_hired_0 1 rfl rfl)
theorem dX5_hired_2 : decode cX5_hired 2 = .ok (.sipush 9999, 3) := dk_17 39 15 (dk_at dksX5_hired_0 2 rfl rfl)
theorem dX5_hired_5 : decode cX5_hired 5 = .ok (.invokestatic 110, 3) := dk_184 0 110 (dk_at dksX5_hired_0 5 rfl rfl)
theorem dX5_hired_8 : decode cX5_hired 8 = .ok (.ifCond .ne 5, 3) := dk_154 0 5 (dk_at dksX5_hired_0 8 rfl rfl)
theorem dX5_hired_11 : decode cX5_hired 11 = .ok (.iconst (-1), 1) := dk_2 (dk_at dksX5_hired_0 11 rfl rfl)
theorem dX5_hired_12 : decode cX5_hired 12 = .ok (.ireturn, 1) := dk_172 (dk_at dksX5_hired_0 12 rfl rfl)
theorem dX5_hired_13 : decode cX5_hired 13 = .ok (.aload_n 0, 1) := dk_42 (dk_at dksX5_hired_0 13 rfl rfl)
theorem dX5_hired_14 : decode cX5_hired 14 = .ok (.invokevirtual 349, 3) := dk_182 1 93 (dk_at dksX5_hired_0 14 rfl rfl)
theorem dX5_hired_17 : decode cX5_hired 17 = .ok (.iconst (-1), 1) := dk_2 (dk_at dksX5_hired_0 17 rfl rfl)
theorem dX5_hired_18 : decode cX5_hired 18 = .ok (.istore_n 2, 1) := dk_61 (dk_at dksX5_hired_0 18 rfl rfl)
theorem dX5_hired_19 : decode cX5_hired 19 = .ok (.iconst 0, 1) := dk_3 (dk_at dksX5_hired_0 19 rfl rfl)
theorem dX5_hired_20 : decode cX5_hired 20 = .ok (.istore_n 3, 1) := dk_62 (dk_at dksX5_hired_0 20 rfl rfl)
theorem dX5_hired_21 : decode cX5_hired 21 = .ok (.iconst 0, 1) := dk_3 (dk_at dksX5_hired_0 21 rfl rfl)
theorem dX5_hired_22 : decode cX5_hired 22 = .ok (.istore 4, 2) := dk_54 4 (dk_at dksX5_hired_0 22 rfl rfl)
theorem dX5_hired_24 : decode cX5_hired 24 = .ok (.iconst 1, 1) := dk_4 (dk_at dksX5_hired_1 0 rfl rfl)
theorem dX5_hired_25 : decode cX5_hired 25 = .ok (.istore 5, 2) := dk_54 5 (dk_at dksX5_hired_1 1 rfl rfl)
theorem dX5_hired_27 : decode cX5_hired 27 = .ok (.iload 5, 2) := dk_21 5 (dk_at dksX5_hired_1 3 rfl rfl)
theorem dX5_hired_29 : decode cX5_hired 29 = .ok (.iconst 1, 1) := dk_4 (dk_at dksX5_hired_1 5 rfl rfl)
theorem dX5_hired_30 : decode cX5_hired 30 = .ok (.aload_n 0, 1) := dk_42 (dk_at dksX5_hired_1 6 rfl rfl)
theorem dX5_hired_31 : decode cX5_hired 31 = .ok (.getfield 7, 3) := dk_180 0 7 (dk_at dksX5_hired_1 7 rfl rfl)
theorem dX5_hired_34 : decode cX5_hired 34 = .ok (.iconst 0, 1) := dk_3 (dk_at dksX5_hired_1 10 rfl rfl)
theorem dX5_hired_35 : decode cX5_hired 35 = .ok (.iaload, 1) := dk_46 (dk_at dksX5_hired_1 11 rfl rfl)
theorem dX5_hired_36 : decode cX5_hired 36 = .ok (.ishl, 1) := dk_120 (dk_at dksX5_hired_1 12 rfl rfl)
theorem dX5_hired_37 : decode cX5_hired 37 = .ok (.if_icmp .ge 122, 3) := dk_162 0 122 (dk_at dksX5_hired_1 13 rfl rfl)
theorem dX5_hired_40 : decode cX5_hired 40 = .ok (.iconst 0, 1) := dk_3 (dk_at dksX5_hired_1 16 rfl rfl)
theorem dX5_hired_41 : decode cX5_hired 41 = .ok (.istore 6, 2) := dk_54 6 (dk_at dksX5_hired_1 17 rfl rfl)
theorem dX5_hired_43 : decode cX5_hired 43 = .ok (.iconst 0, 1) := dk_3 (dk_at dksX5_hired_1 19 rfl rfl)
theorem dX5_hired_44 : decode cX5_hired 44 = .ok (.istore 7, 2) := dk_54 7 (dk_at dksX5_hired_1 20 rfl rfl)
theorem dX5_hired_46 : decode cX5_hired 46 = .ok (.iconst 0, 1) := dk_3 (dk_at dksX5_hired_1 22 rfl rfl)
theorem dX5_hired_47 : decode cX5_hired 47 = .ok (.istore 8, 2) := dk_54 8 (dk_at dksX5_hired_2 0 rfl rfl)
theorem dX5_hired_49 : decode cX5_hired 49 = .ok (.iconst 0, 1) := dk_3 (dk_at dksX5_hired_2 2 rfl rfl)
theorem dX5_hired_50 : decode cX5_hired 50 = .ok (.istore 9, 2) := dk_54 9 (dk_at dksX5_hired_2 3 rfl rfl)
theorem dX5_hired_52 : decode cX5_hired 52 = .ok (.iload 9, 2) := dk_21 9 (dk_at dksX5_hired_2 5 rfl rfl)
theorem dX5_hired_54 : decode cX5_hired 54 = .ok (.aload_n 0, 1) := dk_42 (dk_at dksX5_hired_2 7 rfl rfl)
theorem dX5_hired_55 : decode cX5_hired 55 = .ok (.getfield 7, 3) := dk_180 0 7 (dk_at dksX5_hired_2 8 rfl rfl)
theorem dX5_hired_58 : decode cX5_hired 58 = .ok (.iconst 0, 1) := dk_3 (dk_at dksX5_hired_2 11 rfl rfl)
theorem dX5_hired_59 : decode cX5_hired 59 = .ok (.iaload, 1) := dk_46 (dk_at dksX5_hired_2 12 rfl rfl)
theorem dX5_hired_60 : decode cX5_hired 60 = .ok (.if_icmp .ge 53, 3) := dk_162 0 53 (dk_at dksX5_hired_2 13 rfl rfl)
theorem dX5_hired_63 : decode cX5_hired 63 = .ok (.iload 5, 2) := dk_21 5 (dk_at dksX5_hired_2 16 rfl rfl)
theorem dX5_hired_65 : decode cX5_hired 65 = .ok (.iload 9, 2) := dk_21 9 (dk_at dksX5_hired_2 18 rfl rfl)
theorem dX5_hired_67 : decode cX5_hired 67 = .ok (.ishr, 1) := dk_122 (dk_at dksX5_hired_2 20 rfl rfl)
theorem dX5_hired_68 : decode cX5_hired 68 = .ok (.iconst 1, 1) := dk_4 (dk_at dksX5_hired_2 21 rfl rfl)
theorem dX5_hired_69 : decode cX5_hired 69 = .ok (.iand, 1) := dk_126 (dk_at dksX5_hired_2 22 rfl rfl)
theorem dX5_hired_70 : decode cX5_hired 70 = .ok (.iconst 1, 1) := dk_4 (dk_at dksX5_hired_2 23 rfl rfl)
theorem dX5_hired_71 : decode cX5_hired 71 = .ok (.if_icmp .ne 36, 3) := dk_160 0 36 (dk_at dksX5_hired_3 0 rfl rfl)
theorem dX5_hired_74 : decode cX5_hired 74 = .ok (.iload 6, 2) := dk_21 6 (dk_at dksX5_hired_3 3 rfl rfl)
theorem dX5_hired_76 : decode cX5_hired 76 = .ok (.aload_n 0, 1) := dk_42 (dk_at dksX5_hired_3 5 rfl rfl)
theorem dX5_hired_77 : decode cX5_hired 77 = .ok (.iload 9, 2) := dk_21 9 (dk_at dksX5_hired_3 6 rfl rfl)
theorem dX5_hired_79 : decode cX5_hired 79 = .ok (.invokevirtual 331, 3) := dk_182 1 75 (dk_at dksX5_hired_3 8 rfl rfl)
theorem dX5_hired_82 : decode cX5_hired 82 = .ok (.iadd, 1) := dk_96 (dk_at dksX5_hired_3 11 rfl rfl)
theorem dX5_hired_83 : decode cX5_hired 83 = .ok (.istore 6, 2) := dk_54 6 (dk_at dksX5_hired_3 12 rfl rfl)
theorem dX5_hired_85 : decode cX5_hired 85 = .ok (.iload 7, 2) := dk_21 7 (dk_at dksX5_hired_3 14 rfl rfl)
theorem dX5_hired_87 : decode cX5_hired 87 = .ok (.aload_n 0, 1) := dk_42 (dk_at dksX5_hired_3 16 rfl rfl)
theorem dX5_hired_88 : decode cX5_hired 88 = .ok (.getfield 7, 3) := dk_180 0 7 (dk_at dksX5_hired_3 17 rfl rfl)
theorem dX5_hired_91 : decode cX5_hired 91 = .ok (.bipush 10, 2) := dk_16 10 (dk_at dksX5_hired_3 20 rfl rfl)
theorem dX5_hired_93 : decode cX5_hired 93 = .ok (.iconst 3, 1) := dk_6 (dk_at dksX5_hired_3 22 rfl rfl)
theorem dX5_hired_94 : decode cX5_hired 94 = .ok (.iload 9, 2) := dk_21 9 (dk_at dksX5_hired_4 0 rfl rfl)
theorem dX5_hired_96 : decode cX5_hired 96 = .ok (.imul, 1) := dk_104 (dk_at dksX5_hired_4 2 rfl rfl)
theorem dX5_hired_97 : decode cX5_hired 97 = .ok (.iadd, 1) := dk_96 (dk_at dksX5_hired_4 3 rfl rfl)
theorem dX5_hired_98 : decode cX5_hired 98 = .ok (.iconst 2, 1) := dk_5 (dk_at dksX5_hired_4 4 rfl rfl)
theorem dX5_hired_99 : decode cX5_hired 99 = .ok (.iadd, 1) := dk_96 (dk_at dksX5_hired_4 5 rfl rfl)
theorem dX5_hired_100 : decode cX5_hired 100 = .ok (.iaload, 1) := dk_46 (dk_at dksX5_hired_4 6 rfl rfl)
theorem dX5_hired_101 : decode cX5_hired 101 = .ok (.iadd, 1) := dk_96 (dk_at dksX5_hired_4 7 rfl rfl)
theorem dX5_hired_102 : decode cX5_hired 102 = .ok (.istore 7, 2) := dk_54 7 (dk_at dksX5_hired_4 8 rfl rfl)
theorem dX5_hired_104 : decode cX5_hired 104 = .ok (.iinc 8 1, 3) := dk_132 8 1 (dk_at dksX5_hired_4 10 rfl rfl)
theorem dX5_hired_107 : decode cX5_hired 107 = .ok (.iinc 9 1, 3) := dk_132 9 1 (dk_at dksX5_hired_4 13 rfl rfl)
theorem dX5_hired_110 : decode cX5_hired 110 = .ok (.goto (-58), 3) := dk_167 255 198 (dk_at dksX5_hired_4 16 rfl rfl)
theorem dX5_hired_113 : decode cX5_hired 113 = .ok (.iload 6, 2) := dk_21 6 (dk_at dksX5_hired_4 19 rfl rfl)
theorem dX5_hired_115 : decode cX5_hired 115 = .ok (.iload_n 1, 1) := dk_27 (dk_at dksX5_hired_4 21 rfl rfl)
theorem dX5_hired_116 : decode cX5_hired 116 = .ok (.if_icmp .lt 37, 3) := dk_161 0 37 (dk_at dksX5_hired_5 0 rfl rfl)
theorem dX5_hired_119 : decode cX5_hired 119 = .ok (.iload_n 2, 1) := dk_28 (dk_at dksX5_hired_5 3 rfl rfl)
theorem dX5_hired_120 : decode cX5_hired 120 = .ok (.iconst (-1), 1) := dk_2 (dk_at dksX5_hired_5 4 rfl rfl)
theorem dX5_hired_121 : decode cX5_hired 121 = .ok (.if_icmp .eq 22, 3) := dk_159 0 22 (dk_at dksX5_hired_5 5 rfl rfl)
theorem dX5_hired_124 : decode cX5_hired 124 = .ok (.iload 7, 2) := dk_21 7 (dk_at dksX5_hired_5 8 rfl rfl)
theorem dX5_hired_126 : decode cX5_hired 126 = .ok (.iload_n 3, 1) := dk_29 (dk_at dksX5_hired_5 10 rfl rfl)
theorem dX5_hired_127 : decode cX5_hired 127 = .ok (.if_icmp .lt 16, 3) := dk_161 0 16 (dk_at dksX5_hired_5 11 rfl rfl)
theorem dX5_hired_130 : decode cX5_hired 130 = .ok (.iload 7, 2) := dk_21 7 (dk_at dksX5_hired_5 14 rfl rfl)
theorem dX5_hired_132 : decode cX5_hired 132 = .ok (.iload_n 3, 1) := dk_29 (dk_at dksX5_hired_5 16 rfl rfl)
theorem dX5_hired_133 : decode cX5_hired 133 = .ok (.if_icmp .ne 20, 3) := dk_160 0 20 (dk_at dksX5_hired_5 17 rfl rfl)
theorem dX5_hired_136 : decode cX5_hired 136 = .ok (.iload 8, 2) := dk_21 8 (dk_at dksX5_hired_5 20 rfl rfl)
theorem dX5_hired_138 : decode cX5_hired 138 = .ok (.iload 4, 2) := dk_21 4 (dk_at dksX5_hired_5 22 rfl rfl)
theorem dX5_hired_140 : decode cX5_hired 140 = .ok (.if_icmp .ge 13, 3) := dk_162 0 13 (dk_at dksX5_hired_6 0 rfl rfl)
theorem dX5_hired_143 : decode cX5_hired 143 = .ok (.iload 5, 2) := dk_21 5 (dk_at dksX5_hired_6 3 rfl rfl)
theorem dX5_hired_145 : decode cX5_hired 145 = .ok (.istore_n 2, 1) := dk_61 (dk_at dksX5_hired_6 5 rfl rfl)
theorem dX5_hired_146 : decode cX5_hired 146 = .ok (.iload 7, 2) := dk_21 7 (dk_at dksX5_hired_6 6 rfl rfl)
theorem dX5_hired_148 : decode cX5_hired 148 = .ok (.istore_n 3, 1) := dk_62 (dk_at dksX5_hired_6 8 rfl rfl)
theorem dX5_hired_149 : decode cX5_hired 149 = .ok (.iload 8, 2) := dk_21 8 (dk_at dksX5_hired_6 9 rfl rfl)
theorem dX5_hired_151 : decode cX5_hired 151 = .ok (.istore 4, 2) := dk_54 4 (dk_at dksX5_hired_6 11 rfl rfl)
theorem dX5_hired_153 : decode cX5_hired 153 = .ok (.iinc 5 1, 3) := dk_132 5 1 (dk_at dksX5_hired_6 13 rfl rfl)
theorem dX5_hired_156 : decode cX5_hired 156 = .ok (.goto (-129), 3) := dk_167 255 127 (dk_at dksX5_hired_6 16 rfl rfl)
theorem dX5_hired_159 : decode cX5_hired 159 = .ok (.iload_n 2, 1) := dk_28 (dk_at dksX5_hired_6 19 rfl rfl)
theorem dX5_hired_160 : decode cX5_hired 160 = .ok (.ireturn, 1) := dk_172 (dk_at dksX5_hired_6 20 rfl rfl)
abbrev cX5_contrary : ByteArray := prog_23_method_78_code
def yX5_contrary : MethodName := ⟨RX5, "contrary", "()I"⟩
def dkwX5_contrary_4 : List UInt8 := [16, 30, 28, 104, 27, 96, 172, 132, 2, 1, 167, 255, 168, 132, 1, 1, 167, 255, 148, 2, 172]
abbrev dktX5_contrary_4 : List UInt8 := dkwX5_contrary_4 ++ []
def dkwX5_contrary_3 : List UInt8 := [160, 0, 30, 42, 180, 0, 7, 29, 5, 96, 46, 42, 180, 0, 7, 21, 4, 5, 96, 46, 159, 0, 10]
abbrev dktX5_contrary_3 : List UInt8 := dkwX5_contrary_3 ++ dktX5_contrary_4
def dkwX5_contrary_2 : List UInt8 := [21, 4, 46, 160, 0, 50, 42, 180, 0, 7, 29, 4, 96, 46, 42, 180, 0, 7, 21, 4, 4, 96, 46]
abbrev dktX5_contrary_2 : List UInt8 := dkwX5_contrary_2 ++ dktX5_contrary_3
def dkwX5_contrary_1 : List UInt8 := [6, 28, 104, 96, 62, 17, 1, 118, 6, 27, 104, 96, 54, 4, 42, 180, 0, 7, 29, 46, 42, 180, 0, 7]
abbrev dktX5_contrary_1 : List UInt8 := dkwX5_contrary_1 ++ dktX5_contrary_2
def dkwX5_contrary_0 : List UInt8 := [4, 60, 27, 42, 180, 0, 7, 17, 1, 117, 46, 162, 0, 102, 3, 61, 28, 27, 162, 0, 89, 17, 1, 118]
abbrev dktX5_contrary_0 : List UInt8 := dkwX5_contrary_0 ++ dktX5_contrary_1
theorem dksX5_contrary_0 : cX5_contrary.data.toList.drop 0 = dktX5_contrary_0 := by decide +kernel
theorem dksX5_contrary_1 : cX5_contrary.data.toList.drop 24 = dktX5_contrary_1 := dk_seg dksX5_contrary_0 24 rfl rfl
theorem dksX5_contrary_2 : cX5_contrary.data.toList.drop 48 = dktX5_contrary_2 := dk_seg dksX5_contrary_1 24 rfl rfl
theorem dksX5_contrary_3 : cX5_contrary.data.toList.drop 71 = dktX5_contrary_3 := dk_seg dksX5_contrary_2 23 rfl rfl
theorem dksX5_contrary_4 : cX5_contrary.data.toList.drop 94 = dktX5_contrary_4 := dk_seg dksX5_contrary_3 23 rfl rfl
theorem dX5_contrary_0 : decode cX5_contrary 0 = .ok (.iconst 1, 1) := dk_4 (dk_at dksX5_contrary_0 0 rfl rfl)
theorem dX5_contrary_1 : decode cX5_contrary 1 = .ok (.istore_n 1, 1) := dk_60 (dk_at dksX5_contrary_0 1 rfl rfl)
theorem dX5_contrary_2 : decode cX5_contrary 2 = .ok (.iload_n 1, 1) := dk_27 (dk_at dksX5_contrary_0 2 rfl rfl)
theorem dX5_contrary_3 : decode cX5_contrary 3 = .ok (.aload_n 0, 1) := dk_42 (dk_at dksX5_contrary_0 3 rfl rfl)
theorem dX5_contrary_4 : decode cX5_contrary 4 = .ok (.getfield 7, 3) := dk_180 0 7 (dk_at dksX5_contrary_0 4 rfl rfl)
theorem dX5_contrary_7 : decode cX5_contrary 7 = .ok (.sipush 373, 3) := dk_17 1 117 (dk_at dksX5_contrary_0 7 rfl rfl)
theorem dX5_contrary_10 : decode cX5_contrary 10 = .ok (.iaload, 1) := dk_46 (dk_at dksX5_contrary_0 10 rfl rfl)
theorem dX5_contrary_11 : decode cX5_contrary 11 = .ok (.if_icmp .ge 102, 3) := dk_162 0 102 (dk_at dksX5_contrary_0 11 rfl rfl)
theorem dX5_contrary_14 : decode cX5_contrary 14 = .ok (.iconst 0, 1) := dk_3 (dk_at dksX5_contrary_0 14 rfl rfl)
theorem dX5_contrary_15 : decode cX5_contrary 15 = .ok (.istore_n 2, 1) := dk_61 (dk_at dksX5_contrary_0 15 rfl rfl)
theorem dX5_contrary_16 : decode cX5_contrary 16 = .ok (.iload_n 2, 1) := dk_28 (dk_at dksX5_contrary_0 16 rfl rfl)
theorem dX5_contrary_17 : decode cX5_contrary 17 = .ok (.iload_n 1, 1) := dk_27 (dk_at dksX5_contrary_0 17 rfl rfl)
theorem dX5_contrary_18 : decode cX5_contrary 18 = .ok (.if_icmp .ge 89, 3) := dk_162 0 89 (dk_at dksX5_contrary_0 18 rfl rfl)
theorem dX5_contrary_21 : decode cX5_contrary 21 = .ok (.sipush 374, 3) := dk_17 1 118 (dk_at dksX5_contrary_0 21 rfl rfl)
theorem dX5_contrary_24 : decode cX5_contrary 24 = .ok (.iconst 3, 1) := dk_6 (dk_at dksX5_contrary_1 0 rfl rfl)
theorem dX5_contrary_25 : decode cX5_contrary 25 = .ok (.iload_n 2, 1) := dk_28 (dk_at dksX5_contrary_1 1 rfl rfl)
theorem dX5_contrary_26 : decode cX5_contrary 26 = .ok (.imul, 1) := dk_104 (dk_at dksX5_contrary_1 2 rfl rfl)
theorem dX5_contrary_27 : decode cX5_contrary 27 = .ok (.iadd, 1) := dk_96 (dk_at dksX5_contrary_1 3 rfl rfl)
theorem dX5_contrary_28 : decode cX5_contrary 28 = .ok (.istore_n 3, 1) := dk_62 (dk_at dksX5_contrary_1 4 rfl rfl)
theorem dX5_contrary_29 : decode cX5_contrary 29 = .ok (.sipush 374, 3) := dk_17 1 118 (dk_at dksX5_contrary_1 5 rfl rfl)
theorem dX5_contrary_32 : decode cX5_contrary 32 = .ok (.iconst 3, 1) := dk_6 (dk_at dksX5_contrary_1 8 rfl rfl)
theorem dX5_contrary_33 : decode cX5_contrary 33 = .ok (.iload_n 1, 1) := dk_27 (dk_at dksX5_contrary_1 9 rfl rfl)
theorem dX5_contrary_34 : decode cX5_contrary 34 = .ok (.imul, 1) := dk_104 (dk_at dksX5_contrary_1 10 rfl rfl)
theorem dX5_contrary_35 : decode cX5_contrary 35 = .ok (.iadd, 1) := dk_96 (dk_at dksX5_contrary_1 11 rfl rfl)
theorem dX5_contrary_36 : decode cX5_contrary 36 = .ok (.istore 4, 2) := dk_54 4 (dk_at dksX5_contrary_1 12 rfl rfl)
theorem dX5_contrary_38 : decode cX5_contrary 38 = .ok (.aload_n 0, 1) := dk_42 (dk_at dksX5_contrary_1 14 rfl rfl)
theorem dX5_contrary_39 : decode cX5_contrary 39 = .ok (.getfield 7, 3) := dk_180 0 7 (dk_at dksX5_contrary_1 15 rfl rfl)
theorem dX5_contrary_42 : decode cX5_contrary 42 = .ok (.iload_n 3, 1) := dk_29 (dk_at dksX5_contrary_1 18 rfl rfl)
theorem dX5_contrary_43 : decode cX5_contrary 43 = .ok (.iaload, 1) := dk_46 (dk_at dksX5_contrary_1 19 rfl rfl)
theorem dX5_contrary_44 : decode cX5_contrary 44 = .ok (.aload_n 0, 1) := dk_42 (dk_at dksX5_contrary_1 20 rfl rfl)
theorem dX5_contrary_45 : decode cX5_contrary 45 = .ok (.getfield 7, 3) := dk_180 0 7 (dk_at dksX5_contrary_1 21 rfl rfl)
theorem dX5_contrary_48 : decode cX5_contrary 48 = .ok (.iload 4, 2) := dk_21 4 (dk_at dksX5_contrary_2 0 rfl rfl)
theorem dX5_contrary_50 : decode cX5_contrary 50 = .ok (.iaload, 1) := dk_46 (dk_at dksX5_contrary_2 2 rfl rfl)
theorem dX5_contrary_51 : decode cX5_contrary 51 = .ok (.if_icmp .ne 50, 3) := dk_160 0 50 (dk_at dksX5_contrary_2 3 rfl rfl)
theorem dX5_contrary_54 : decode cX5_contrary 54 = .ok (.aload_n 0, 1) := dk_42 (dk_at dksX5_contrary_2 6 rfl rfl)
theorem dX5_contrary_55 : decode cX5_contrary 55 = .ok (.getfield 7, 3) := dk_180 0 7 (dk_at dksX5_contrary_2 7 rfl rfl)
theorem dX5_contrary_58 : decode cX5_contrary 58 = .ok (.iload_n 3, 1) := dk_29 (dk_at dksX5_contrary_2 10 rfl rfl)
theorem dX5_contrary_59 : decode cX5_contrary 59 = .ok (.iconst 1, 1) := dk_4 (dk_at dksX5_contrary_2 11 rfl rfl)
theorem dX5_contrary_60 : decode cX5_contrary 60 = .ok (.iadd, 1) := dk_96 (dk_at dksX5_contrary_2 12 rfl rfl)
theorem dX5_contrary_61 : decode cX5_contrary 61 = .ok (.iaload, 1) := dk_46 (dk_at dksX5_contrary_2 13 rfl rfl)
theorem dX5_contrary_62 : decode cX5_contrary 62 = .ok (.aload_n 0, 1) := dk_42 (dk_at dksX5_contrary_2 14 rfl rfl)
theorem dX5_contrary_63 : decode cX5_contrary 63 = .ok (.getfield 7, 3) := dk_180 0 7 (dk_at dksX5_contrary_2 15 rfl rfl)
theorem dX5_contrary_66 : decode cX5_contrary 66 = .ok (.iload 4, 2) := dk_21 4 (dk_at dksX5_contrary_2 18 rfl rfl)
theorem dX5_contrary_68 : decode cX5_contrary 68 = .ok (.iconst 1, 1) := dk_4 (dk_at dksX5_contrary_2 20 rfl rfl)
theorem dX5_contrary_69 : decode cX5_contrary 69 = .ok (.iadd, 1) := dk_96 (dk_at dksX5_contrary_2 21 rfl rfl)
theorem dX5_contrary_70 : decode cX5_contrary 70 = .ok (.iaload, 1) := dk_46 (dk_at dksX5_contrary_2 22 rfl rfl)
theorem dX5_contrary_71 : decode cX5_contrary 71 = .ok (.if_icmp .ne 30, 3) := dk_160 0 30 (dk_at dksX5_contrary_3 0 rfl rfl)
theorem dX5_contrary_74 : decode cX5_contrary 74 = .ok (.aload_n 0, 1) := dk_42 (dk_at dksX5_contrary_3 3 rfl rfl)
theorem dX5_contrary_75 : decode cX5_contrary 75 = .ok (.getfield 7, 3) := dk_180 0 7 (dk_at dksX5_contrary_3 4 rfl rfl)
theorem dX5_contrary_78 : decode cX5_contrary 78 = .ok (.iload_n 3, 1) := dk_29 (dk_at dksX5_contrary_3 7 rfl rfl)
theorem dX5_contrary_79 : decode cX5_contrary 79 = .ok (.iconst 2, 1) := dk_5 (dk_at dksX5_contrary_3 8 rfl rfl)
theorem dX5_contrary_80 : decode cX5_contrary 80 = .ok (.iadd, 1) := dk_96 (dk_at dksX5_contrary_3 9 rfl rfl)
theorem dX5_contrary_81 : decode cX5_contrary 81 = .ok (.iaload, 1) := dk_46 (dk_at dksX5_contrary_3 10 rfl rfl)
theorem dX5_contrary_82 : decode cX5_contrary 82 = .ok (.aload_n 0, 1) := dk_42 (dk_at dksX5_contrary_3 11 rfl rfl)
theorem dX5_contrary_83 : decode cX5_contrary 83 = .ok (.getfield 7, 3) := dk_180 0 7 (dk_at dksX5_contrary_3 12 rfl rfl)
theorem dX5_contrary_86 : decode cX5_contrary 86 = .ok (.iload 4, 2) := dk_21 4 (dk_at dksX5_contrary_3 15 rfl rfl)
theorem dX5_contrary_88 : decode cX5_contrary 88 = .ok (.iconst 2, 1) := dk_5 (dk_at dksX5_contrary_3 17 rfl rfl)
theorem dX5_contrary_89 : decode cX5_contrary 89 = .ok (.iadd, 1) := dk_96 (dk_at dksX5_contrary_3 18 rfl rfl)
theorem dX5_contrary_90 : decode cX5_contrary 90 = .ok (.iaload, 1) := dk_46 (dk_at dksX5_contrary_3 19 rfl rfl)
theorem dX5_contrary_91 : decode cX5_contrary 91 = .ok (.if_icmp .eq 10, 3) := dk_159 0 10 (dk_at dksX5_contrary_3 20 rfl rfl)
theorem dX5_contrary_94 : decode cX5_contrary 94 = .ok (.bipush 30, 2) := dk_16 30 (dk_at dksX5_contrary_4 0 rfl rfl)
theorem dX5_contrary_96 : decode cX5_contrary 96 = .ok (.iload_n 2, 1) := dk_28 (dk_at dksX5_contrary_4 2 rfl rfl)
theorem dX5_contrary_97 : decode cX5_contrary 97 = .ok (.imul, 1) := dk_104 (dk_at dksX5_contrary_4 3 rfl rfl)
theorem dX5_contrary_98 : decode cX5_contrary 98 = .ok (.iload_n 1, 1) := dk_27 (dk_at dksX5_contrary_4 4 rfl rfl)
theorem dX5_contrary_99 : decode cX5_contrary 99 = .ok (.iadd, 1) := dk_96 (dk_at dksX5_contrary_4 5 rfl rfl)
theorem dX5_contrary_100 : decode cX5_contrary 100 = .ok (.ireturn, 1) := dk_172 (dk_at dksX5_contrary_4 6 rfl rfl)
theorem dX5_contrary_101 : decode cX5_contrary 101 = .ok (.iinc 2 1, 3) := dk_132 2 1 (dk_at dksX5_contrary_4 7 rfl rfl)
theorem dX5_contrary_104 : decode cX5_contrary 104 = .ok (.goto (-88), 3) := dk_167 255 168 (dk_at dksX5_contrary_4 10 rfl rfl)
theorem dX5_contrary_107 : decode cX5_contrary 107 = .ok (.iinc 1 1, 3) := dk_132 1 1 (dk_at dksX5_contrary_4 13 rfl rfl)
theorem dX5_contrary_110 : decode cX5_contrary 110 = .ok (.goto (-108), 3) := dk_167 255 148 (dk_at dksX5_contrary_4 16 rfl rfl)
theorem dX5_contrary_113 : decode cX5_contrary 113 = .ok (.iconst (-1), 1) := dk_2 (dk_at dksX5_contrary_4 19 rfl rfl)
theorem dX5_contrary_114 : decode cX5_contrary 114 = .ok (.ireturn, 1) := dk_172 (dk_at dksX5_contrary_4 20 rfl rfl)
abbrev cX5_odds : ByteArray := prog_23_method_80_code
def yX5_odds : MethodName := ⟨RX5, "odds", "(IIZ)J"⟩
def dkwX5_odds_6 : List UInt8 := [21, 4, 133, 22, 6, 109, 167, 0, 9, 21, 5, 133, 22, 6, 109, 173]
abbrev dktX5_odds_6 : List UInt8 := dkwX5_odds_6 ++ []
def dkwX5_odds_5 : List UInt8 := [54, 5, 132, 6, 1, 167, 255, 173, 21, 4, 133, 21, 5, 133, 184, 1, 143, 55, 6, 29, 153, 0, 12]
abbrev dktX5_odds_5 : List UInt8 := dkwX5_odds_5 ++ dktX5_odds_6
def dkwX5_odds_4 : List UInt8 := [79, 132, 7, 1, 167, 255, 211, 21, 5, 42, 182, 1, 84, 27, 160, 0, 7, 4, 167, 0, 4, 3, 96]
abbrev dktX5_odds_4 : List UInt8 := dkwX5_odds_4 ++ dktX5_odds_5
def dkwX5_odds_3 : List UInt8 := [42, 180, 0, 85, 21, 8, 92, 46, 42, 180, 0, 85, 21, 8, 46, 158, 0, 7, 4, 167, 0, 4, 3, 100]
abbrev dktX5_odds_3 : List UInt8 := dkwX5_odds_3 ++ dktX5_odds_4
def dkwX5_odds_2 : List UInt8 := [42, 182, 1, 93, 3, 54, 7, 21, 7, 28, 162, 0, 45, 21, 6, 5, 21, 7, 104, 122, 6, 126, 54, 8]
abbrev dktX5_odds_2 : List UInt8 := dkwX5_odds_2 ++ dktX5_odds_3
def dkwX5_odds_1 : List UInt8 := [20, 1, 141, 173, 4, 5, 28, 104, 120, 54, 4, 3, 54, 5, 3, 54, 6, 21, 6, 21, 4, 162, 0, 82]
abbrev dktX5_odds_1 : List UInt8 := dkwX5_odds_1 ++ dktX5_odds_2
def dkwX5_odds_0 : List UInt8 := [27, 17, 216, 241, 17, 39, 15, 184, 0, 110, 153, 0, 13, 28, 3, 16, 6, 184, 0, 110, 154, 0, 7]
abbrev dktX5_odds_0 : List UInt8 := dkwX5_odds_0 ++ dktX5_odds_1
theorem dksX5_odds_0 : cX5_odds.data.toList.drop 0 = dktX5_odds_0 := by decide +kernel
theorem dksX5_odds_1 : cX5_odds.data.toList.drop 23 = dktX5_odds_1 := dk_seg dksX5_odds_0 23 rfl rfl
theorem dksX5_odds_2 : cX5_odds.data.toList.drop 47 = dktX5_odds_2 := dk_seg dksX5_odds_1 24 rfl rfl
theorem dksX5_odds_3 : cX5_odds.data.toList.drop 71 = dktX5_odds_3 := dk_seg dksX5_odds_2 24 rfl rfl
theorem dksX5_odds_4 : cX5_odds.data.toList.drop 95 = dktX5_odds_4 := dk_seg dksX5_odds_3 24 rfl rfl
theorem dksX5_odds_5 : cX5_odds.data.toList.drop 118 = dktX5_odds_5 := dk_seg dksX5_odds_4 23 rfl rfl
theorem dksX5_odds_6 : cX5_odds.data.toList.drop 141 = dktX5_odds_6 := dk_seg dksX5_odds_5 23 rfl rfl
theorem dX5_odds_0 : decode cX5_odds 0 = .ok (.iload_n 1, 1) := dk_27 (dk_at dksX5_odds_0 0 rfl rfl)
theorem dX5_odds_1 : decode cX5_odds 1 = .ok (.sipush (-9999), 3) := dk_17 216 241 (dk_at dksX5_odds_0 1 rfl rfl)
theorem dX5_odds_4 : decode cX5_odds 4 = .ok (.sipush 9999, 3) := dk_17 39 15 (dk_at dksX5_odds_0 4 rfl rfl)
theorem dX5_odds_7 : decode cX5_odds 7 = .ok (.invokestatic 110, 3) := dk_184 0 110 (dk_at dksX5_odds_0 7 rfl rfl)
theorem dX5_odds_10 : decode cX5_odds 10 = .ok (.ifCond .eq 13, 3) := dk_153 0 13 (dk_at dksX5_odds_0 10 rfl rfl)
theorem dX5_odds_13 : decode cX5_odds 13 = .ok (.iload_n 2, 1) := dk_28 (dk_at dksX5_odds_0 13 rfl rfl)
theorem dX5_odds_14 : decode cX5_odds 14 = .ok (.iconst 0, 1) := dk_3 (dk_at dksX5_odds_0 14 rfl rfl)
theorem dX5_odds_15 : decode cX5_odds 15 = .ok (.bipush 6, 2) := dk_16 6 (dk_at dksX5_odds_0 15 rfl rfl)
theorem dX5_odds_17 : decode cX5_odds 17 = .ok (.invokestatic 110, 3) := dk_184 0 110 (dk_at dksX5_odds_0 17 rfl rfl)
theorem dX5_odds_20 : decode cX5_odds 20 = .ok (.ifCond .ne 7, 3) := dk_154 0 7 (dk_at dksX5_odds_0 20 rfl rfl)
theorem dX5_odds_23 : decode cX5_odds 23 = .ok (.ldc2_w 397, 3) := dk_20 1 141 (dk_at dksX5_odds_1 0 rfl rfl)
theorem dX5_odds_26 : decode cX5_odds 26 = .ok (.lreturn, 1) := dk_173 (dk_at dksX5_odds_1 3 rfl rfl)
theorem dX5_odds_27 : decode cX5_odds 27 = .ok (.iconst 1, 1) := dk_4 (dk_at dksX5_odds_1 4 rfl rfl)
theorem dX5_odds_28 : decode cX5_odds 28 = .ok (.iconst 2, 1) := dk_5 (dk_at dksX5_odds_1 5 rfl rfl)
theorem dX5_odds_29 : decode cX5_odds 29 = .ok (.iload_n 2, 1) := dk_28 (dk_at dksX5_odds_1 6 rfl rfl)
theorem dX5_odds_30 : decode cX5_odds 30 = .ok (.imul, 1) := dk_104 (dk_at dksX5_odds_1 7 rfl rfl)
theorem dX5_odds_31 : decode cX5_odds 31 = .ok (.ishl, 1) := dk_120 (dk_at dksX5_odds_1 8 rfl rfl)
theorem dX5_odds_32 : decode cX5_odds 32 = .ok (.istore 4, 2) := dk_54 4 (dk_at dksX5_odds_1 9 rfl rfl)
theorem dX5_odds_34 : decode cX5_odds 34 = .ok (.iconst 0, 1) := dk_3 (dk_at dksX5_odds_1 11 rfl rfl)
theorem dX5_odds_35 : decode cX5_odds 35 = .ok (.istore 5, 2) := dk_54 5 (dk_at dksX5_odds_1 12 rfl rfl)
theorem dX5_odds_37 : decode cX5_odds 37 = .ok (.iconst 0, 1) := dk_3 (dk_at dksX5_odds_1 14 rfl rfl)
theorem dX5_odds_38 : decode cX5_odds 38 = .ok (.istore 6, 2) := dk_54 6 (dk_at dksX5_odds_1 15 rfl rfl)
theorem dX5_odds_40 : decode cX5_odds 40 = .ok (.iload 6, 2) := dk_21 6 (dk_at dksX5_odds_1 17 rfl rfl)
theorem dX5_odds_42 : decode cX5_odds 42 = .ok (.iload 4, 2) := dk_21 4 (dk_at dksX5_odds_1 19 rfl rfl)
theorem dX5_odds_44 : decode cX5_odds 44 = .ok (.if_icmp .ge 82, 3) := dk_162 0 82 (dk_at dksX5_odds_1 21 rfl rfl)
theorem dX5_odds_47 : decode cX5_odds 47 = .ok (.aload_n 0, 1) := dk_42 (dk_at dksX5_odds_2 0 rfl rfl)
theorem dX5_odds_48 : decode cX5_odds 48 = .ok (.invokevirtual 349, 3) := dk_182 1 93 (dk_at dksX5_odds_2 1 rfl rfl)
theorem dX5_odds_51 : decode cX5_odds 51 = .ok (.iconst 0, 1) := dk_3 (dk_at dksX5_odds_2 4 rfl rfl)
theorem dX5_odds_52 : decode cX5_odds 52 = .ok (.istore 7, 2) := dk_54 7 (dk_at dksX5_odds_2 5 rfl rfl)
theorem dX5_odds_54 : decode cX5_odds 54 = .ok (.iload 7, 2) := dk_21 7 (dk_at dksX5_odds_2 7 rfl rfl)
theorem dX5_odds_56 : decode cX5_odds 56 = .ok (.iload_n 2, 1) := dk_28 (dk_at dksX5_odds_2 9 rfl rfl)
theorem dX5_odds_57 : decode cX5_odds 57 = .ok (.if_icmp .ge 45, 3) := dk_162 0 45 (dk_at dksX5_odds_2 10 rfl rfl)
theorem dX5_odds_60 : decode cX5_odds 60 = .ok (.iload 6, 2) := dk_21 6 (dk_at dksX5_odds_2 13 rfl rfl)
theorem dX5_odds_62 : decode cX5_odds 62 = .ok (.iconst 2, 1) := dk_5 (dk_at dksX5_odds_2 15 rfl rfl)
theorem dX5_odds_63 : decode cX5_odds 63 = .ok (.iload 7, 2) := dk_21 7 (dk_at dksX5_odds_2 16 rfl rfl)
theorem dX5_odds_65 : decode cX5_odds 65 = .ok (.imul, 1) := dk_104 (dk_at dksX5_odds_2 18 rfl rfl)
theorem dX5_odds_66 : decode cX5_odds 66 = .ok (.ishr, 1) := dk_122 (dk_at dksX5_odds_2 19 rfl rfl)
theorem dX5_odds_67 : decode cX5_odds 67 = .ok (.iconst 3, 1) := dk_6 (dk_at dksX5_odds_2 20 rfl rfl)
theorem dX5_odds_68 : decode cX5_odds 68 = .ok (.iand, 1) := dk_126 (dk_at dksX5_odds_2 21 rfl rfl)
theorem dX5_odds_69 : decode cX5_odds 69 = .ok (.istore 8, 2) := dk_54 8 (dk_at dksX5_odds_2 22 rfl rfl)
theorem dX5_odds_71 : decode cX5_odds 71 = .ok (.aload_n 0, 1) := dk_42 (dk_at dksX5_odds_3 0 rfl rfl)
theorem dX5_odds_72 : decode cX5_odds 72 = .ok (.getfield 85, 3) := dk_180 0 85 (dk_at dksX5_odds_3 1 rfl rfl)
theorem dX5_odds_75 : decode cX5_odds 75 = .ok (.iload 8, 2) := dk_21 8 (dk_at dksX5_odds_3 4 rfl rfl)
theorem dX5_odds_77 : decode cX5_odds 77 = .ok (.dup2, 1) := dk_92 (dk_at dksX5_odds_3 6 rfl rfl)
theorem dX5_odds_78 : decode cX5_odds 78 = .ok (.iaload, 1) := dk_46 (dk_at dksX5_odds_3 7 rfl rfl)
theorem dX5_odds_79 : decode cX5_odds 79 = .ok (.aload_n 0, 1) := dk_42 (dk_at dksX5_odds_3 8 rfl rfl)
theorem dX5_odds_80 : decode cX5_odds 80 = .ok (.getfield 85, 3) := dk_180 0 85 (dk_at dksX5_odds_3 9 rfl rfl)
theorem dX5_odds_83 : decode cX5_odds 83 = .ok (.iload 8, 2) := dk_21 8 (dk_at dksX5_odds_3 12 rfl rfl)
theorem dX5_odds_85 : decode cX5_odds 85 = .ok (.iaload, 1) := dk_46 (dk_at dksX5_odds_3 14 rfl rfl)
theorem dX5_odds_86 : decode cX5_odds 86 = .ok (.ifCond .le 7, 3) := dk_158 0 7 (dk_at dksX5_odds_3 15 rfl rfl)
theorem dX5_odds_89 : decode cX5_odds 89 = .ok (.iconst 1, 1) := dk_4 (dk_at dksX5_odds_3 18 rfl rfl)
theorem dX5_odds_90 : decode cX5_odds 90 = .ok (.goto 4, 3) := dk_167 0 4 (dk_at dksX5_odds_3 19 rfl rfl)
theorem dX5_odds_93 : decode cX5_odds 93 = .ok (.iconst 0, 1) := dk_3 (dk_at dksX5_odds_3 22 rfl rfl)
theorem dX5_odds_94 : decode cX5_odds 94 = .ok (.isub, 1) := dk_100 (dk_at dksX5_odds_3 23 rfl rfl)
theorem dX5_odds_95 : decode cX5_odds 95 = .ok (.iastore, 1) := dk_79 (dk_at dksX5_odds_4 0 rfl rfl)
theorem dX5_odds_96 : decode cX5_odds 96 = .ok (.iinc 7 1, 3) := dk_132 7 1 (dk_at dksX5_odds_4 1 rfl rfl)
theorem dX5_odds_99 : decode cX5_odds 99 = .ok (.goto (-45), 3) := dk_167 255 211 (dk_at dksX5_odds_4 4 rfl rfl)
theorem dX5_odds_102 : decode cX5_odds 102 = .ok (.iload 5, 2) := dk_21 5 (dk_at dksX5_odds_4 7 rfl rfl)
theorem dX5_odds_104 : decode cX5_odds 104 = .ok (.aload_n 0, 1) := dk_42 (dk_at dksX5_odds_4 9 rfl rfl)
theorem dX5_odds_105 : decode cX5_odds 105 = .ok (.invokevirtual 340, 3) := dk_182 1 84 (dk_at dksX5_odds_4 10 rfl rfl)
theorem dX5_odds_108 : decode cX5_odds 108 = .ok (.iload_n 1, 1) := dk_27 (dk_at dksX5_odds_4 13 rfl rfl)
theorem dX5_odds_109 : decode cX5_odds 109 = .ok (.if_icmp .ne 7, 3) := dk_160 0 7 (dk_at dksX5_odds_4 14 rfl rfl)
theorem dX5_odds_112 : decode cX5_odds 112 = .ok (.iconst 1, 1) := dk_4 (dk_at dksX5_odds_4 17 rfl rfl)
theorem dX5_odds_113 : decode cX5_odds 113 = .ok (.goto 4, 3) := dk_167 0 4 (dk_at dksX5_odds_4 18 rfl rfl)
theorem dX5_odds_116 : decode cX5_odds 116 = .ok (.iconst 0, 1) := dk_3 (dk_at dksX5_odds_4 21 rfl rfl)
theorem dX5_odds_117 : decode cX5_odds 117 = .ok (.iadd, 1) := dk_96 (dk_at dksX5_odds_4 22 rfl rfl)
theorem dX5_odds_118 : decode cX5_odds 118 = .ok (.istore 5, 2) := dk_54 5 (dk_at dksX5_odds_5 0 rfl rfl)
theorem dX5_odds_120 : decode cX5_odds 120 = .ok (.iinc 6 1, 3) := dk_132 6 1 (dk_at dksX5_odds_5 2 rfl rfl)
theorem dX5_odds_123 : decode cX5_odds 123 = .ok (.goto (-83), 3) := dk_167 255 173 (dk_at dksX5_odds_5 5 rfl rfl)
theorem dX5_odds_126 : decode cX5_odds 126 = .ok (.iload 4, 2) := dk_21 4 (dk_at dksX5_odds_5 8 rfl rfl)
theorem dX5_odds_128 : decode cX5_odds 128 = .ok (.i2l, 1) := dk_133 (dk_at dksX5_odds_5 10 rfl rfl)
theorem dX5_odds_129 : decode cX5_odds 129 = .ok (.iload 5, 2) := dk_21 5 (dk_at dksX5_odds_5 11 rfl rfl)
theorem dX5_odds_131 : decode cX5_odds 131 = .ok (.i2l, 1) := dk_133 (dk_at dksX5_odds_5 13 rfl rfl)
theorem dX5_odds_132 : decode cX5_odds 132 = .ok (.invokestatic 399, 3) := dk_184 1 143 (dk_at dksX5_odds_5 14 rfl rfl)
theorem dX5_odds_135 : decode cX5_odds 135 = .ok (.lstore 6, 2) := dk_55 6 (dk_at dksX5_odds_5 17 rfl rfl)
theorem dX5_odds_137 : decode cX5_odds 137 = .ok (.iload_n 3, 1) := dk_29 (dk_at dksX5_odds_5 19 rfl rfl)
theorem dX5_odds_138 : decode cX5_odds 138 = .ok (.ifCond .eq 12, 3) := dk_153 0 12 (dk_at dksX5_odds_5 20 rfl rfl)
theorem dX5_odds_141 : decode cX5_odds 141 = .ok (.iload 4, 2) := dk_21 4 (dk_at dksX5_odds_6 0 rfl rfl)
theorem dX5_odds_143 : decode cX5_odds 143 = .ok (.i2l, 1) := dk_133 (dk_at dksX5_odds_6 2 rfl rfl)
theorem dX5_odds_144 : decode cX5_odds 144 = .ok (.lload 6, 2) := dk_22 6 (dk_at dksX5_odds_6 3 rfl rfl)
theorem dX5_odds_146 : decode cX5_odds 146 = .ok (.ldiv, 1) := dk_109 (dk_at dksX5_odds_6 5 rfl rfl)
theorem dX5_odds_147 : decode cX5_odds 147 = .ok (.goto 9, 3) := dk_167 0 9 (dk_at dksX5_odds_6 6 rfl rfl)
theorem dX5_odds_150 : decode cX5_odds 150 = .ok (.iload 5, 2) := dk_21 5 (dk_at dksX5_odds_6 9 rfl rfl)
theorem dX5_odds_152 : decode cX5_odds 152 = .ok (.i2l, 1) := dk_133 (dk_at dksX5_odds_6 11 rfl rfl)
theorem dX5_odds_153 : decode cX5_odds 153 = .ok (.lload 6, 2) := dk_22 6 (dk_at dksX5_odds_6 12 rfl rfl)
theorem dX5_odds_155 : decode cX5_odds 155 = .ok (.ldiv, 1) := dk_109 (dk_at dksX5_odds_6 14 rfl rfl)
theorem dX5_odds_156 : decode cX5_odds 156 = .ok (.lreturn, 1) := dk_173 (dk_at dksX5_odds_6 15 rfl rfl)
abbrev cX5_common : ByteArray := prog_23_method_79_code
def yX5_common : MethodName := ⟨RX5, "common", "(JJ)J"⟩
def dkwX5_common_1 : List UInt8 := [22, 8, 55, 6, 167, 255, 234, 22, 4, 173]
abbrev dktX5_common_1 : List UInt8 := dkwX5_common_1 ++ []
def dkwX5_common_0 : List UInt8 := [30, 55, 4, 32, 55, 6, 22, 6, 9, 148, 153, 0, 21, 22, 4, 22, 6, 113, 55, 8, 22, 6, 55, 4]
abbrev dktX5_common_0 : List UInt8 := dkwX5_common_0 ++ dktX5_common_1
theorem dksX5_common_0 : cX5_common.data.toList.drop 0 = dktX5_common_0 := by decide +kernel
theorem dksX5_common_1 : cX5_common.data.toList.drop 24 = dktX5_common_1 := dk_seg dksX5_common_0 24 rfl rfl
theorem dX5_common_0 : decode cX5_common 0 = .ok (.lload_n 0, 1) := dk_30 (dk_at dksX5_common_0 0 rfl rfl)
theorem dX5_common_1 : decode cX5_common 1 = .ok (.lstore 4, 2) := dk_55 4 (dk_at dksX5_common_0 1 rfl rfl)
theorem dX5_common_3 : decode cX5_common 3 = .ok (.lload_n 2, 1) := dk_32 (dk_at dksX5_common_0 3 rfl rfl)
theorem dX5_common_4 : decode cX5_common 4 = .ok (.lstore 6, 2) := dk_55 6 (dk_at dksX5_common_0 4 rfl rfl)
theorem dX5_common_6 : decode cX5_common 6 = .ok (.lload 6, 2) := dk_22 6 (dk_at dksX5_common_0 6 rfl rfl)
theorem dX5_common_8 : decode cX5_common 8 = .ok (.lconst 0, 1) := dk_9 (dk_at dksX5_common_0 8 rfl rfl)
theorem dX5_common_9 : decode cX5_common 9 = .ok (.lcmp, 1) := dk_148 (dk_at dksX5_common_0 9 rfl rfl)
theorem dX5_common_10 : decode cX5_common 10 = .ok (.ifCond .eq 21, 3) := dk_153 0 21 (dk_at dksX5_common_0 10 rfl rfl)
theorem dX5_common_13 : decode cX5_common 13 = .ok (.lload 4, 2) := dk_22 4 (dk_at dksX5_common_0 13 rfl rfl)
theorem dX5_common_15 : decode cX5_common 15 = .ok (.lload 6, 2) := dk_22 6 (dk_at dksX5_common_0 15 rfl rfl)
theorem dX5_common_17 : decode cX5_common 17 = .ok (.lrem, 1) := dk_113 (dk_at dksX5_common_0 17 rfl rfl)
theorem dX5_common_18 : decode cX5_common 18 = .ok (.lstore 8, 2) := dk_55 8 (dk_at dksX5_common_0 18 rfl rfl)
theorem dX5_common_20 : decode cX5_common 20 = .ok (.lload 6, 2) := dk_22 6 (dk_at dksX5_common_0 20 rfl rfl)
theorem dX5_common_22 : decode cX5_common 22 = .ok (.lstore 4, 2) := dk_55 4 (dk_at dksX5_common_0 22 rfl rfl)
theorem dX5_common_24 : decode cX5_common 24 = .ok (.lload 8, 2) := dk_22 8 (dk_at dksX5_common_1 0 rfl rfl)
theorem dX5_common_26 : decode cX5_common 26 = .ok (.lstore 6, 2) := dk_55 6 (dk_at dksX5_common_1 2 rfl rfl)
theorem dX5_common_28 : decode cX5_common 28 = .ok (.goto (-22), 3) := dk_167 255 234 (dk_at dksX5_common_1 4 rfl rfl)
theorem dX5_common_31 : decode cX5_common 31 = .ok (.lload 4, 2) := dk_22 4 (dk_at dksX5_common_1 7 rfl rfl)
theorem dX5_common_33 : decode cX5_common 33 = .ok (.lreturn, 1) := dk_173 (dk_at dksX5_common_1 9 rfl rfl)
abbrev cX5_tell : ByteArray := prog_23_method_81_code
def yX5_tell : MethodName := ⟨RX5, "tell", "(II)I"⟩
def dkwX5_tell_4 : List UInt8 := [180, 0, 7, 8, 46, 172]
abbrev dktX5_tell_4 : List UInt8 := dkwX5_tell_4 ++ []
def dkwX5_tell_3 : List UInt8 := [180, 0, 7, 8, 46, 104, 96, 4, 96, 28, 79, 42, 180, 0, 7, 8, 92, 46, 4, 96, 79, 42]
abbrev dktX5_tell_3 : List UInt8 := dkwX5_tell_3 ++ dktX5_tell_4
def dkwX5_tell_2 : List UInt8 := [180, 0, 7, 16, 64, 5, 42, 180, 0, 7, 8, 46, 104, 96, 27, 79, 42, 180, 0, 7, 16, 64, 5, 42]
abbrev dktX5_tell_2 : List UInt8 := dkwX5_tell_2 ++ dktX5_tell_3
def dkwX5_tell_1 : List UInt8 := [17, 3, 231, 184, 0, 110, 153, 0, 14, 42, 180, 0, 7, 8, 46, 16, 20, 160, 0, 6, 16, 254, 172, 42]
abbrev dktX5_tell_1 : List UInt8 := dkwX5_tell_1 ++ dktX5_tell_2
def dkwX5_tell_0 : List UInt8 := [27, 2, 160, 0, 12, 42, 180, 0, 7, 8, 3, 79, 3, 172, 42, 27, 182, 1, 87, 153, 0, 25, 28, 4]
abbrev dktX5_tell_0 : List UInt8 := dkwX5_tell_0 ++ dktX5_tell_1
theorem dksX5_tell_0 : cX5_tell.data.toList.drop 0 = dktX5_tell_0 := by decide +kernel
theorem dksX5_tell_1 : cX5_tell.data.toList.drop 24 = dktX5_tell_1 := dk_seg dksX5_tell_0 24 rfl rfl
theorem dksX5_tell_2 : cX5_tell.data.toList.drop 48 = dktX5_tell_2 := dk_seg dksX5_tell_1 24 rfl rfl
theorem dksX5_tell_3 : cX5_tell.data.toList.drop 72 = dktX5_tell_3 := dk_seg dksX5_tell_2 24 rfl rfl
theorem dksX5_tell_4 : cX5_tell.data.toList.drop 94 = dktX5_tell_4 := dk_seg dksX5_tell_3 22 rfl rfl
theorem dX5_tell_0 : decode cX5_tell 0 = .ok (.iload_n 1, 1) := dk_27 (dk_at dksX5_tell_0 0 rfl rfl)
theorem dX5_tell_1 : decode cX5_tell 1 = .ok (.iconst (-1), 1) := dk_2 (dk_at dksX5_tell_0 1 rfl rfl)
theorem dX5_tell_2 : decode cX5_tell 2 = .ok (.if_icmp .ne 12, 3) := dk_160 0 12 (dk_at dksX5_tell_0 2 rfl rfl)
theorem dX5_tell_5 : decode cX5_tell 5 = .ok (.aload_n 0, 1) := dk_42 (dk_at dksX5_tell_0 5 rfl rfl)
theorem dX5_tell_6 : decode cX5_tell 6 = .ok (.getfield 7, 3) := dk_180 0 7 (dk_at dksX5_tell_0 6 rfl rfl)
theorem dX5_tell_9 : decode cX5_tell 9 = .ok (.iconst 5, 1) := dk_8 (dk_at dksX5_tell_0 9 rfl rfl)
theorem dX5_tell_10 : decode cX5_tell 10 = .ok (.iconst 0, 1) := dk_3 (dk_at dksX5_tell_0 10 rfl rfl)
theorem dX5_tell_11 : decode cX5_tell 11 = .ok (.iastore, 1) := dk_79 (dk_at dksX5_tell_0 11 rfl rfl)
theorem dX5_tell_12 : decode cX5_tell 12 = .ok (.iconst 0, 1) := dk_3 (dk_at dksX5_tell_0 12 rfl rfl)
theorem dX5_tell_13 : decode cX5_tell 13 = .ok (.ireturn, 1) := dk_172 (dk_at dksX5_tell_0 13 rfl rfl)
theorem dX5_tell_14 : decode cX5_tell 14 = .ok (.aload_n 0, 1) := dk_42 (dk_at dksX5_tell_0 14 rfl rfl)
theorem dX5_tell_15 : decode cX5_tell 15 = .ok (.iload_n 1, 1) := dk_27 (dk_at dksX5_tell_0 15 rfl rfl)
theorem dX5_tell_16 : decode cX5_tell 16 = .ok (.invokevirtual 343, 3) := dk_182 1 87 (dk_at dksX5_tell_0 16 rfl rfl)
theorem dX5_tell_19 : decode cX5_tell 19 = .ok (.ifCond .eq 25, 3) := dk_153 0 25 (dk_at dksX5_tell_0 19 rfl rfl)
theorem dX5_tell_22 : decode cX5_tell 22 = .ok (.iload_n 2, 1) := dk_28 (dk_at dksX5_tell_0 22 rfl rfl)
theorem dX5_tell_23 : decode cX5_tell 23 = .ok (.iconst 1, 1) := dk_4 (dk_at dksX5_tell_0 23 rfl rfl)
theorem dX5_tell_24 : decode cX5_tell 24 = .ok (.sipush 999, 3) := dk_17 3 231 (dk_at dksX5_tell_1 0 rfl rfl)
theorem dX5_tell_27 : decode cX5_tell 27 = .ok (.invokestatic 110, 3) := dk_184 0 110 (dk_at dksX5_tell_1 3 rfl rfl)
theorem dX5_tell_30 : decode cX5_tell 30 = .ok (.ifCond .eq 14, 3) := dk_153 0 14 (dk_at dksX5_tell_1 6 rfl rfl)
theorem dX5_tell_33 : decode cX5_tell 33 = .ok (.aload_n 0, 1) := dk_42 (dk_at dksX5_tell_1 9 rfl rfl)
theorem dX5_tell_34 : decode cX5_tell 34 = .ok (.getfield 7, 3) := dk_180 0 7 (dk_at dksX5_tell_1 10 rfl rfl)
theorem dX5_tell_37 : decode cX5_tell 37 = .ok (.iconst 5, 1) := dk_8 (dk_at dksX5_tell_1 13 rfl rfl)
theorem dX5_tell_38 : decode cX5_tell 38 = .ok (.iaload, 1) := dk_46 (dk_at dksX5_tell_1 14 rfl rfl)
theorem dX5_tell_39 : decode cX5_tell 39 = .ok (.bipush 20, 2) := dk_16 20 (dk_at dksX5_tell_1 15 rfl rfl)
theorem dX5_tell_41 : decode cX5_tell 41 = .ok (.if_icmp .ne 6, 3) := dk_160 0 6 (dk_at dksX5_tell_1 17 rfl rfl)
theorem dX5_tell_44 : decode cX5_tell 44 = .ok (.bipush (-2), 2) := dk_16 254 (dk_at dksX5_tell_1 20 rfl rfl)
theorem dX5_tell_46 : decode cX5_tell 46 = .ok (.ireturn, 1) := dk_172 (dk_at dksX5_tell_1 22 rfl rfl)
theorem dX5_tell_47 : decode cX5_tell 47 = .ok (.aload_n 0, 1) := dk_42 (dk_at dksX5_tell_1 23 rfl rfl)
theorem dX5_tell_48 : decode cX5_tell 48 = .ok (.getfield 7, 3) := dk_180 0 7 (dk_at dksX5_tell_2 0 rfl rfl)
theorem dX5_tell_51 : decode cX5_tell 51 = .ok (.bipush 64, 2) := dk_16 64 (dk_at dksX5_tell_2 3 rfl rfl)
theorem dX5_tell_53 : decode cX5_tell 53 = .ok (.iconst 2, 1) := dk_5 (dk_at dksX5_tell_2 5 rfl rfl)
theorem dX5_tell_54 : decode cX5_tell 54 = .ok (.aload_n 0, 1) := dk_42 (dk_at dksX5_tell_2 6 rfl rfl)
theorem dX5_tell_55 : decode cX5_tell 55 = .ok (.getfield 7, 3) := dk_180 0 7 (dk_at dksX5_tell_2 7 rfl rfl)
theorem dX5_tell_58 : decode cX5_tell 58 = .ok (.iconst 5, 1) := dk_8 (dk_at dksX5_tell_2 10 rfl rfl)
theorem dX5_tell_59 : decode cX5_tell 59 = .ok (.iaload, 1) := dk_46 (dk_at dksX5_tell_2 11 rfl rfl)
theorem dX5_tell_60 : decode cX5_tell 60 = .ok (.imul, 1) := dk_104 (dk_at dksX5_tell_2 12 rfl rfl)
theorem dX5_tell_61 : decode cX5_tell 61 = .ok (.iadd, 1) := dk_96 (dk_at dksX5_tell_2 13 rfl rfl)
theorem dX5_tell_62 : decode cX5_tell 62 = .ok (.iload_n 1, 1) := dk_27 (dk_at dksX5_tell_2 14 rfl rfl)
theorem dX5_tell_63 : decode cX5_tell 63 = .ok (.iastore, 1) := dk_79 (dk_at dksX5_tell_2 15 rfl rfl)
theorem dX5_tell_64 : decode cX5_tell 64 = .ok (.aload_n 0, 1) := dk_42 (dk_at dksX5_tell_2 16 rfl rfl)
theorem dX5_tell_65 : decode cX5_tell 65 = .ok (.getfield 7, 3) := dk_180 0 7 (dk_at dksX5_tell_2 17 rfl rfl)
theorem dX5_tell_68 : decode cX5_tell 68 = .ok (.bipush 64, 2) := dk_16 64 (dk_at dksX5_tell_2 20 rfl rfl)
theorem dX5_tell_70 : decode cX5_tell 70 = .ok (.iconst 2, 1) := dk_5 (dk_at dksX5_tell_2 22 rfl rfl)
theorem dX5_tell_71 : decode cX5_tell 71 = .ok (.aload_n 0, 1) := dk_42 (dk_at dksX5_tell_2 23 rfl rfl)
theorem dX5_tell_72 : decode cX5_tell 72 = .ok (.getfield 7, 3) := dk_180 0 7 (dk_at dksX5_tell_3 0 rfl rfl)
theorem dX5_tell_75 : decode cX5_tell 75 = .ok (.iconst 5, 1) := dk_8 (dk_at dksX5_tell_3 3 rfl rfl)
theorem dX5_tell_76 : decode cX5_tell 76 = .ok (.iaload, 1) := dk_46 (dk_at dksX5_tell_3 4 rfl rfl)
theorem dX5_tell_77 : decode cX5_tell 77 = .ok (.imul, 1) := dk_104 (dk_at dksX5_tell_3 5 rfl rfl)
theorem dX5_tell_78 : decode cX5_tell 78 = .ok (.iadd, 1) := dk_96 (dk_at dksX5_tell_3 6 rfl rfl)
theorem dX5_tell_79 : decode cX5_tell 79 = .ok (.iconst 1, 1) := dk_4 (dk_at dksX5_tell_3 7 rfl rfl)
theorem dX5_tell_80 : decode cX5_tell 80 = .ok (.iadd, 1) := dk_96 (dk_at dksX5_tell_3 8 rfl rfl)
theorem dX5_tell_81 : decode cX5_tell 81 = .ok (.iload_n 2, 1) := dk_28 (dk_at dksX5_tell_3 9 rfl rfl)
theorem dX5_tell_82 : decode cX5_tell 82 = .ok (.iastore, 1) := dk_79 (dk_at dksX5_tell_3 10 rfl rfl)
theorem dX5_tell_83 : decode cX5_tell 83 = .ok (.aload_n 0, 1) := dk_42 (dk_at dksX5_tell_3 11 rfl rfl)
theorem dX5_tell_84 : decode cX5_tell 84 = .ok (.getfield 7, 3) := dk_180 0 7 (dk_at dksX5_tell_3 12 rfl rfl)
theorem dX5_tell_87 : decode cX5_tell 87 = .ok (.iconst 5, 1) := dk_8 (dk_at dksX5_tell_3 15 rfl rfl)
theorem dX5_tell_88 : decode cX5_tell 88 = .ok (.dup2, 1) := dk_92 (dk_at dksX5_tell_3 16 rfl rfl)
theorem dX5_tell_89 : decode cX5_tell 89 = .ok (.iaload, 1) := dk_46 (dk_at dksX5_tell_3 17 rfl rfl)
theorem dX5_tell_90 : decode cX5_tell 90 = .ok (.iconst 1, 1) := dk_4 (dk_at dksX5_tell_3 18 rfl rfl)
theorem dX5_tell_91 : decode cX5_tell 91 = .ok (.iadd, 1) := dk_96 (dk_at dksX5_tell_3 19 rfl rfl)
theorem dX5_tell_92 : decode cX5_tell 92 = .ok (.iastore, 1) := dk_79 (dk_at dksX5_tell_3 20 rfl rfl)
theorem dX5_tell_93 : decode cX5_tell 93 = .ok (.aload_n 0, 1) := dk_42 (dk_at dksX5_tell_3 21 rfl rfl)
theorem dX5_tell_94 : decode cX5_tell 94 = .ok (.getfield 7, 3) := dk_180 0 7 (dk_at dksX5_tell_4 0 rfl rfl)
theorem dX5_tell_97 : decode cX5_tell 97 = .ok (.iconst 5, 1) := dk_8 (dk_at dksX5_tell_4 3 rfl rfl)
theorem dX5_tell_98 : decode cX5_tell 98 = .ok (.iaload, 1) := dk_46 (dk_at dksX5_tell_4 4 rfl rfl)
theorem dX5_tell_99 : decode cX5_tell 99 = .ok (.ireturn, 1) := dk_172 (dk_at dksX5_tell_4 5 rfl rfl)
abbrev cX5_liars : ByteArray := prog_23_method_83_code
def yX5_liars : MethodName := ⟨RX5, "liars", "()I"⟩
def dkwX5_liars_1 : List UInt8 := [167, 0, 6, 4, 28, 120, 128, 60, 132, 2, 1, 167, 255, 225, 27, 172]
abbrev dktX5_liars_1 : List UInt8 := dkwX5_liars_1 ++ []
def dkwX5_liars_0 : List UInt8 := [3, 60, 3, 61, 28, 42, 180, 0, 7, 3, 46, 162, 0, 27, 27, 42, 28, 182, 1, 147, 154, 0, 7, 3]
abbrev dktX5_liars_0 : List UInt8 := dkwX5_liars_0 ++ dktX5_liars_1
theorem dksX5_liars_0 : cX5_liars.data.toList.drop 0 = dktX5_liars_0 := by decide +kernel
theorem dksX5_liars_1 : cX5_liars.data.toList.drop 24 = dktX5_liars_1 := dk_seg dksX5_liars_0 24 rfl rfl
theorem dX5_liars_0 : decode cX5_liars 0 = .ok (.iconst 0, 1) := dk_3 (dk_at dksX5_liars_0 0 rfl rfl)
theorem dX5_liars_1 : decode cX5_liars 1 = .ok (.istore_n 1, 1) := dk_60 (dk_at dksX5_liars_0 1 rfl rfl)
theorem dX5_liars_2 : decode cX5_liars 2 = .ok (.iconst 0, 1) := dk_3 (dk_at dksX5_liars_0 2 rfl rfl)
theorem dX5_liars_3 : decode cX5_liars 3 = .ok (.istore_n 2, 1) := dk_61 (dk_at dksX5_liars_0 3 rfl rfl)
theorem dX5_liars_4 : decode cX5_liars 4 = .ok (.iload_n 2, 1) := dk_28 (dk_at dksX5_liars_0 4 rfl rfl)
theorem dX5_liars_5 : decode cX5_liars 5 = .ok (.aload_n 0, 1) := dk_42 (dk_at dksX5_liars_0 5 rfl rfl)
theorem dX5_liars_6 : decode cX5_liars 6 = .ok (.getfield 7, 3) := dk_180 0 7 (dk_at dksX5_liars_0 6 rfl rfl)
theorem dX5_liars_9 : decode cX5_liars 9 = .ok (.iconst 0, 1) := dk_3 (dk_at dksX5_liars_0 9 rfl rfl)
theorem dX5_liars_10 : decode cX5_liars 10 = .ok (.iaload, 1) := dk_46 (dk_at dksX5_liars_0 10 rfl rfl)
theorem dX5_liars_11 : decode cX5_liars 11 = .ok (.if_icmp .ge 27, 3) := dk_162 0 27 (dk_at dksX5_liars_0 11 rfl rfl)
theorem dX5_liars_14 : decode cX5_liars 14 = .ok (.iload_n 1, 1) := dk_27 (dk_at dksX5_liars_0 14 rfl rfl)
theorem dX5_liars_15 : decode cX5_liars 15 = .ok (.aload_n 0, 1) := dk_42 (dk_at dksX5_liars_0 15 rfl rfl)
theorem dX5_liars_16 : decode cX5_liars 16 = .ok (.iload_n 2, 1) := dk_28 (dk_at dksX5_liars_0 16 rfl rfl)
theorem dX5_liars_17 : decode cX5_liars 17 = .ok (.invokevirtual 403, 3) := dk_182 1 147 (dk_at dksX5_liars_0 17 rfl rfl)
theorem dX5_liars_20 : decode cX5_liars 20 = .ok (.ifCond .ne 7, 3) := dk_154 0 7 (dk_at dksX5_liars_0 20 rfl rfl)
theorem dX5_liars_23 : decode cX5_liars 23 = .ok (.iconst 0, 1) := dk_3 (dk_at dksX5_liars_0 23 rfl rfl)
theorem dX5_liars_24 : decode cX5_liars 24 = .ok (.goto 6, 3) := dk_167 0 6 (dk_at dksX5_liars_1 0 rfl rfl)
theorem dX5_liars_27 : decode cX5_liars 27 = .ok (.iconst 1, 1) := dk_4 (dk_at dksX5_liars_1 3 rfl rfl)
theorem dX5_liars_28 : decode cX5_liars 28 = .ok (.iload_n 2, 1) := dk_28 (dk_at dksX5_liars_1 4 rfl rfl)
theorem dX5_liars_29 : decode cX5_liars 29 = .ok (.ishl, 1) := dk_120 (dk_at dksX5_liars_1 5 rfl rfl)
theorem dX5_liars_30 : decode cX5_liars 30 = .ok (.ior, 1) := dk_128 (dk_at dksX5_liars_1 6 rfl rfl)
theorem dX5_liars_31 : decode cX5_liars 31 = .ok (.istore_n 1, 1) := dk_60 (dk_at dksX5_liars_1 7 rfl rfl)
theorem dX5_liars_32 : decode cX5_liars 32 = .ok (.iinc 2 1, 3) := dk_132 2 1 (dk_at dksX5_liars_1 8 rfl rfl)
theorem dX5_liars_35 : decode cX5_liars 35 = .ok (.goto (-31), 3) := dk_167 255 225 (dk_at dksX5_liars_1 11 rfl rfl)
theorem dX5_liars_38 : decode cX5_liars 38 = .ok (.iload_n 1, 1) := dk_27 (dk_at dksX5_liars_1 14 rfl rfl)
theorem dX5_liars_39 : decode cX5_liars 39 = .ok (.ireturn, 1) := dk_172 (dk_at dksX5_liars_1 15 rfl rfl)
abbrev cX5_toldMore : ByteArray := prog_23_method_82_code
def yX5_toldMore : MethodName := ⟨RX5, "toldMore", "(I)I"⟩
def dkwX5_toldMore_2 : List UInt8 := [96, 4, 96, 46, 167, 0, 4, 3, 96, 61, 132, 3, 1, 167, 255, 208, 28, 172]
abbrev dktX5_toldMore_2 : List UInt8 := dkwX5_toldMore_2 ++ []
def dkwX5_toldMore_1 : List UInt8 := [42, 180, 0, 7, 16, 64, 5, 29, 104, 96, 46, 27, 160, 0, 19, 42, 180, 0, 7, 16, 64, 5, 29, 104]
abbrev dktX5_toldMore_1 : List UInt8 := dkwX5_toldMore_1 ++ dktX5_toldMore_2
def dkwX5_toldMore_0 : List UInt8 := [42, 180, 0, 7, 16, 123, 27, 96, 46, 116, 61, 3, 62, 29, 42, 180, 0, 7, 8, 46, 162, 0, 44, 28]
abbrev dktX5_toldMore_0 : List UInt8 := dkwX5_toldMore_0 ++ dktX5_toldMore_1
theorem dksX5_toldMore_0 : cX5_toldMore.data.toList.drop 0 = dktX5_toldMore_0 := by decide +kernel
theorem dksX5_toldMore_1 : cX5_toldMore.data.toList.drop 24 = dktX5_toldMore_1 := dk_seg dksX5_toldMore_0 24 rfl rfl
theorem dksX5_toldMore_2 : cX5_toldMore.data.toList.drop 48 = dktX5_toldMore_2 := dk_seg dksX5_toldMore_1 24 rfl rfl
theorem dX5_toldMore_0 : decode cX5_toldMore 0 = .ok (.aload_n 0, 1) := dk_42 (dk_at dksX5_toldMore_0 0 rfl rfl)
theorem dX5_toldMore_1 : decode cX5_toldMore 1 = .ok (.getfield 7, 3) := dk_180 0 7 (dk_at dksX5_toldMore_0 1 rfl rfl)
theorem dX5_toldMore_4 : decode cX5_toldMore 4 = .ok (.bipush 123, 2) := dk_16 123 (dk_at dksX5_toldMore_0 4 rfl rfl)
theorem dX5_toldMore_6 : decode cX5_toldMore 6 = .ok (.iload_n 1, 1) := dk_27 (dk_at dksX5_toldMore_0 6 rfl rfl)
theorem dX5_toldMore_7 : decode cX5_toldMore 7 = .ok (.iadd, 1) := dk_96 (dk_at dksX5_toldMore_0 7 rfl rfl)
theorem dX5_toldMore_8 : decode cX5_toldMore 8 = .ok (.iaload, 1) := dk_46 (dk_at dksX5_toldMore_0 8 rfl rfl)
theorem dX5_toldMore_9 : decode cX5_toldMore 9 = .ok (.ineg, 1) := dk_116 (dk_at dksX5_toldMore_0 9 rfl rfl)
theorem dX5_toldMore_10 : decode cX5_toldMore 10 = .ok (.istore_n 2, 1) := dk_61 (dk_at dksX5_toldMore_0 10 rfl rfl)
theorem dX5_toldMore_11 : decode cX5_toldMore 11 = .ok (.iconst 0, 1) := dk_3 (dk_at dksX5_toldMore_0 11 rfl rfl)
theorem dX5_toldMore_12 : decode cX5_toldMore 12 = .ok (.istore_n 3, 1) := dk_62 (dk_at dksX5_toldMore_0 12 rfl rfl)
theorem dX5_toldMore_13 : decode cX5_toldMore 13 = .ok (.iload_n 3, 1) := dk_29 (dk_at dksX5_toldMore_0 13 rfl rfl)
theorem dX5_toldMore_14 : decode cX5_toldMore 14 = .ok (.aload_n 0, 1) := dk_42 (dk_at dksX5_toldMore_0 14 rfl rfl)
theorem dX5_toldMore_15 : decode cX5_toldMore 15 = .ok (.getfield 7, 3) := dk_180 0 7 (dk_at dksX5_toldMore_0 15 rfl rfl)
theorem dX5_toldMore_18 : decode cX5_toldMore 18 = .ok (.iconst 5, 1) := dk_8 (dk_at dksX5_toldMore_0 18 rfl rfl)
theorem dX5_toldMore_19 : decode cX5_toldMore 19 = .ok (.iaload, 1) := dk_46 (dk_at dksX5_toldMore_0 19 rfl rfl)
theorem dX5_toldMore_20 : decode cX5_toldMore 20 = .ok (.if_icmp .ge 44, 3) := dk_162 0 44 (dk_at dksX5_toldMore_0 20 rfl rfl)
theorem dX5_toldMore_23 : decode cX5_toldMore 23 = .ok (.iload_n 2, 1) := dk_28 (dk_at dksX5_toldMore_0 23 rfl rfl)
theorem dX5_toldMore_24 : decode cX5_toldMore 24 = .ok (.aload_n 0, 1) := dk_42 (dk_at dksX5_toldMore_1 0 rfl rfl)
theorem dX5_toldMore_25 : decode cX5_toldMore 25 = .ok (.getfield 7, 3) := dk_180 0 7 (dk_at dksX5_toldMore_1 1 rfl rfl)
theorem dX5_toldMore_28 : decode cX5_toldMore 28 = .ok (.bipush 64, 2) := dk_16 64 (dk_at dksX5_toldMore_1 4 rfl rfl)
theorem dX5_toldMore_30 : decode cX5_toldMore 30 = .ok (.iconst 2, 1) := dk_5 (dk_at dksX5_toldMore_1 6 rfl rfl)
theorem dX5_toldMore_31 : decode cX5_toldMore 31 = .ok (.iload_n 3, 1) := dk_29 (dk_at dksX5_toldMore_1 7 rfl rfl)
theorem dX5_toldMore_32 : decode cX5_toldMore 32 = .ok (.imul, 1) := dk_104 (dk_at dksX5_toldMore_1 8 rfl rfl)
theorem dX5_toldMore_33 : decode cX5_toldMore 33 = .ok (.iadd, 1) := dk_96 (dk_at dksX5_toldMore_1 9 rfl rfl)
theorem dX5_toldMore_34 : decode cX5_toldMore 34 = .ok (.iaload, 1) := dk_46 (dk_at dksX5_toldMore_1 10 rfl rfl)
theorem dX5_toldMore_35 : decode cX5_toldMore 35 = .ok (.iload_n 1, 1) := dk_27 (dk_at dksX5_toldMore_1 11 rfl rfl)
theorem dX5_toldMore_36 : decode cX5_toldMore 36 = .ok (.if_icmp .ne 19, 3) := dk_160 0 19 (dk_at dksX5_toldMore_1 12 rfl rfl)
theorem dX5_toldMore_39 : decode cX5_toldMore 39 = .ok (.aload_n 0, 1) := dk_42 (dk_at dksX5_toldMore_1 15 rfl rfl)
theorem dX5_toldMore_40 : decode cX5_toldMore 40 = .ok (.getfield 7, 3) := dk_180 0 7 (dk_at dksX5_toldMore_1 16 rfl rfl)
theorem dX5_toldMore_43 : decode cX5_toldMore 43 = .ok (.bipush 64, 2) := dk_16 64 (dk_at dksX5_toldMore_1 19 rfl rfl)
theorem dX5_toldMore_45 : decode cX5_toldMore 45 = .ok (.iconst 2, 1) := dk_5 (dk_at dksX5_toldMore_1 21 rfl rfl)
theorem dX5_toldMore_46 : decode cX5_toldMore 46 = .ok (.iload_n 3, 1) := dk_29 (dk_at dksX5_toldMore_1 22 rfl rfl)
theorem dX5_toldMore_47 : decode cX5_toldMore 47 = .ok (.imul, 1) := dk_104 (dk_at dksX5_toldMore_1 23 rfl rfl)
theorem dX5_toldMore_48 : decode cX5_toldMore 48 = .ok (.iadd, 1) := dk_96 (dk_at dksX5_toldMore_2 0 rfl rfl)
theorem dX5_toldMore_49 : decode cX5_toldMore 49 = .ok (.iconst 1, 1) := dk_4 (dk_at dksX5_toldMore_2 1 rfl rfl)
theorem dX5_toldMore_50 : decode cX5_toldMore 50 = .ok (.iadd, 1) := dk_96 (dk_at dksX5_toldMore_2 2 rfl rfl)
theorem dX5_toldMore_51 : decode cX5_toldMore 51 = .ok (.iaload, 1) := dk_46 (dk_at dksX5_toldMore_2 3 rfl rfl)
theorem dX5_toldMore_52 : decode cX5_toldMore 52 = .ok (.goto 4, 3) := dk_167 0 4 (dk_at dksX5_toldMore_2 4 rfl rfl)
theorem dX5_toldMore_55 : decode cX5_toldMore 55 = .ok (.iconst 0, 1) := dk_3 (dk_at dksX5_toldMore_2 7 rfl rfl)
theorem dX5_toldMore_56 : decode cX5_toldMore 56 = .ok (.iadd, 1) := dk_96 (dk_at dksX5_toldMore_2 8 rfl rfl)
theorem dX5_toldMore_57 : decode cX5_toldMore 57 = .ok (.istore_n 2, 1) := dk_61 (dk_at dksX5_toldMore_2 9 rfl rfl)
theorem dX5_toldMore_58 : decode cX5_toldMore 58 = .ok (.iinc 3 1, 3) := dk_132 3 1 (dk_at dksX5_toldMore_2 10 rfl rfl)
theorem dX5_toldMore_61 : decode cX5_toldMore 61 = .ok (.goto (-48), 3) := dk_167 255 208 (dk_at dksX5_toldMore_2 13 rfl rfl)
theorem dX5_toldMore_64 : decode cX5_toldMore 64 = .ok (.iload_n 2, 1) := dk_28 (dk_at dksX5_toldMore_2 16 rfl rfl)
theorem dX5_toldMore_65 : decode cX5_toldMore 65 = .ok (.ireturn, 1) := dk_172 (dk_at dksX5_toldMore_2 17 rfl rfl)
abbrev cX5_inWhoseName : ByteArray := prog_23_method_84_code
def yX5_inWhoseName : MethodName := ⟨RX5, "inWhoseName", "(I)I"⟩
def dkwX5_inWhoseName_2 : List UInt8 := [160, 0, 5, 28, 172, 132, 2, 1, 167, 255, 222, 2, 172]
abbrev dktX5_inWhoseName_2 : List UInt8 := dkwX5_inWhoseName_2 ++ []
def dkwX5_inWhoseName_1 : List UInt8 := [180, 0, 7, 3, 46, 162, 0, 30, 28, 27, 159, 0, 19, 42, 28, 182, 1, 147, 42, 27, 182, 1, 147, 116]
abbrev dktX5_inWhoseName_1 : List UInt8 := dkwX5_inWhoseName_1 ++ dktX5_inWhoseName_2
def dkwX5_inWhoseName_0 : List UInt8 := [42, 27, 182, 1, 87, 153, 0, 11, 42, 27, 182, 1, 147, 155, 0, 5, 2, 172, 3, 61, 28, 42]
abbrev dktX5_inWhoseName_0 : List UInt8 := dkwX5_inWhoseName_0 ++ dktX5_inWhoseName_1
theorem dksX5_inWhoseName_0 : cX5_inWhoseName.data.toList.drop 0 = dktX5_inWhoseName_0 := by decide +kernel
theorem dksX5_inWhoseName_1 : cX5_inWhoseName.data.toList.drop 22 = dktX5_inWhoseName_1 := dk_seg dksX5_inWhoseName_0 22 rfl rfl
theorem dksX5_inWhoseName_2 : cX5_inWhoseName.data.toList.drop 46 = dktX5_inWhoseName_2 := dk_seg dksX5_inWhoseName_1 24 rfl rfl
theorem dX5_inWhoseName_0 : decode cX5_inWhoseName 0 = .ok (.aload_n 0, 1) := dk_42 (dk_at dksX5_inWhoseName_0 0 rfl rfl)
theorem dX5_inWhoseName_1 : decode cX5_inWhoseName 1 = .ok (.iload_n 1, 1) := dk_27 (dk_at dksX5_inWhoseName_0 1 rfl rfl)
theorem dX5_inWhoseName_2 : decode cX5_inWhoseName 2 = .ok (.invokevirtual 343, 3) := dk_182 1 87 (dk_at dksX5_inWhoseName_0 2 rfl rfl)
theorem dX5_inWhoseName_5 : decode cX5_inWhoseName 5 = .ok (.ifCond .eq 11, 3) := dk_153 0 11 (dk_at dksX5_inWhoseName_0 5 rfl rfl)
theorem dX5_inWhoseName_8 : decode cX5_inWhoseName 8 = .ok (.aload_n 0, 1) := dk_42 (dk_at dksX5_inWhoseName_0 8 rfl rfl)
theorem dX5_inWhoseName_9 : decode cX5_inWhoseName 9 = .ok (.iload_n 1, 1) := dk_27 (dk_at dksX5_inWhoseName_0 9 rfl rfl)
theorem dX5_inWhoseName_10 : decode cX5_inWhoseName 10 = .ok (.invokevirtual 403, 3) := dk_182 1 147 (dk_at dksX5_inWhoseName_0 10 rfl rfl)
theorem dX5_inWhoseName_13 : decode cX5_inWhoseName 13 = .ok (.ifCond .lt 5, 3) := dk_155 0 5 (dk_at dksX5_inWhoseName_0 13 rfl rfl)
theorem dX5_inWhoseName_16 : decode cX5_inWhoseName 16 = .ok (.iconst (-1), 1) := dk_2 (dk_at dksX5_inWhoseName_0 16 rfl rfl)
theorem dX5_inWhoseName_17 : decode cX5_inWhoseName 17 = .ok (.ireturn, 1) := dk_172 (dk_at dksX5_inWhoseName_0 17 rfl rfl)
theorem dX5_inWhoseName_18 : decode cX5_inWhoseName 18 = .ok (.iconst 0, 1) := dk_3 (dk_at dksX5_inWhoseName_0 18 rfl rfl)
theorem dX5_inWhoseName_19 : decode cX5_inWhoseName 19 = .ok (.istore_n 2, 1) := dk_61 (dk_at dksX5_inWhoseName_0 19 rfl rfl)
theorem dX5_inWhoseName_20 : decode cX5_inWhoseName 20 = .ok (.iload_n 2, 1) := dk_28 (dk_at dksX5_inWhoseName_0 20 rfl rfl)
theorem dX5_inWhoseName_21 : decode cX5_inWhoseName 21 = .ok (.aload_n 0, 1) := dk_42 (dk_at dksX5_inWhoseName_0 21 rfl rfl)
theorem dX5_inWhoseName_22 : decode cX5_inWhoseName 22 = .ok (.getfield 7, 3) := dk_180 0 7 (dk_at dksX5_inWhoseName_1 0 rfl rfl)
theorem dX5_inWhoseName_25 : decode cX5_inWhoseName 25 = .ok (.iconst 0, 1) := dk_3 (dk_at dksX5_inWhoseName_1 3 rfl rfl)
theorem dX5_inWhoseName_26 : decode cX5_inWhoseName 26 = .ok (.iaload, 1) := dk_46 (dk_at dksX5_inWhoseName_1 4 rfl rfl)
theorem dX5_inWhoseName_27 : decode cX5_inWhoseName 27 = .ok (.if_icmp .ge 30, 3) := dk_162 0 30 (dk_at dksX5_inWhoseName_1 5 rfl rfl)
theorem dX5_inWhoseName_30 : decode cX5_inWhoseName 30 = .ok (.iload_n 2, 1) := dk_28 (dk_at dksX5_inWhoseName_1 8 rfl rfl)
theorem dX5_inWhoseName_31 : decode cX5_inWhoseName 31 = .ok (.iload_n 1, 1) := dk_27 (dk_at dksX5_inWhoseName_1 9 rfl rfl)
theorem dX5_inWhoseName_32 : decode cX5_inWhoseName 32 = .ok (.if_icmp .eq 19, 3) := dk_159 0 19 (dk_at dksX5_inWhoseName_1 10 rfl rfl)
theorem dX5_inWhoseName_35 : decode cX5_inWhoseName 35 = .ok (.aload_n 0, 1) := dk_42 (dk_at dksX5_inWhoseName_1 13 rfl rfl)
theorem dX5_inWhoseName_36 : decode cX5_inWhoseName 36 = .ok (.iload_n 2, 1) := dk_28 (dk_at dksX5_inWhoseName_1 14 rfl rfl)
theorem dX5_inWhoseName_37 : decode cX5_inWhoseName 37 = .ok (.invokevirtual 403, 3) := dk_182 1 147 (dk_at dksX5_inWhoseName_1 15 rfl rfl)
theorem dX5_inWhoseName_40 : decode cX5_inWhoseName 40 = .ok (.aload_n 0, 1) := dk_42 (dk_at dksX5_inWhoseName_1 18 rfl rfl)
theorem dX5_inWhoseName_41 : decode cX5_inWhoseName 41 = .ok (.iload_n 1, 1) := dk_27 (dk_at dksX5_inWhoseName_1 19 rfl rfl)
theorem dX5_inWhoseName_42 : decode cX5_inWhoseName 42 = .ok (.invokevirtual 403, 3) := dk_182 1 147 (dk_at dksX5_inWhoseName_1 20 rfl rfl)
theorem dX5_inWhoseName_45 : decode cX5_inWhoseName 45 = .ok (.ineg, 1) := dk_116 (dk_at dksX5_inWhoseName_1 23 rfl rfl)
theorem dX5_inWhoseName_46 : decode cX5_inWhoseName 46 = .ok (.if_icmp .ne 5, 3) := dk_160 0 5 (dk_at dksX5_inWhoseName_2 0 rfl rfl)
theorem dX5_inWhoseName_49 : decode cX5_inWhoseName 49 = .ok (.iload_n 2, 1) := dk_28 (dk_at dksX5_inWhoseName_2 3 rfl rfl)
theorem dX5_inWhoseName_50 : decode cX5_inWhoseName 50 = .ok (.ireturn, 1) := dk_172 (dk_at dksX5_inWhoseName_2 4 rfl rfl)
theorem dX5_inWhoseName_51 : decode cX5_inWhoseName 51 = .ok (.iinc 2 1, 3) := dk_132 2 1 (dk_at dksX5_inWhoseName_2 5 rfl rfl)
theorem dX5_inWhoseName_54 : decode cX5_inWhoseName 54 = .ok (.goto (-34), 3) := dk_167 255 222 (dk_at dksX5_inWhoseName_2 8 rfl rfl)
theorem dX5_inWhoseName_57 : decode cX5_inWhoseName 57 = .ok (.iconst (-1), 1) := dk_2 (dk_at dksX5_inWhoseName_2 11 rfl rfl)
theorem dX5_inWhoseName_58 : decode cX5_inWhoseName 58 = .ok (.ireturn, 1) := dk_172 (dk_at dksX5_inWhoseName_2 12 rfl rfl)
abbrev cX5_image : ByteArray := prog_23_method_85_code
def yX5_image : MethodName := ⟨RX5, "image", "()I"⟩
def dkwX5_image_0 : List UInt8 := [42, 4, 182, 0, 106, 42, 180, 0, 7, 17, 0, 132, 46, 172]
abbrev dktX5_image_0 : List UInt8 := dkwX5_image_0 ++ []
theorem dksX5_image_0 : cX5_image.data.toList.drop 0 = dktX5_image_0 := by decide +kernel
theorem dX5_image_0 : decode cX5_image 0 = .ok (.aload_n 0, 1) := dk_42 (dk_at dksX5_image_0 0 rfl rfl)
theorem dX5_image_1 : decode cX5_image 1 = .ok (.iconst 1, 1) := dk_4 (dk_at dksX5_image_0 1 rfl rfl)
theorem dX5_image_2 : decode cX5_image 2 = .ok (.invokevirtual 106, 3) := dk_182 0 106 (dk_at dksX5_image_0 2 rfl rfl)
theorem dX5_image_5 : decode cX5_image 5 = .ok (.aload_n 0, 1) := dk_42 (dk_at dksX5_image_0 5 rfl rfl)
theorem dX5_image_6 : decode cX5_image 6 = .ok (.getfield 7, 3) := dk_180 0 7 (dk_at dksX5_image_0 6 rfl rfl)
theorem dX5_image_9 : decode cX5_image 9 = .ok (.sipush 132, 3) := dk_17 0 132 (dk_at dksX5_image_0 9 rfl rfl)
theorem dX5_image_12 : decode cX5_image 12 = .ok (.iaload, 1) := dk_46 (dk_at dksX5_image_0 12 rfl rfl)
theorem dX5_image_13 : decode cX5_image 13 = .ok (.ireturn, 1) := dk_172 (dk_at dksX5_image_0 13 rfl rfl)
abbrev cX5_back : ByteArray := prog_23_method_86_code
def yX5_back : MethodName := ⟨RX5, "back", "()I"⟩
def dkwX5_back_0 : List UInt8 := [42, 3, 182, 0, 106, 42, 180, 0, 7, 17, 0, 132, 46, 172]
abbrev dktX5_back_0 : List UInt8 := dkwX5_back_0 ++ []
theorem dksX5_back_0 : cX5_back.data.toList.drop 0 = dktX5_back_0 := by decide +kernel
theorem dX5_back_0 : decode cX5_back 0 = .ok (.aload_n 0, 1) := dk_42 (dk_at dksX5_back_0 0 rfl rfl)
theorem dX5_back_1 : decode cX5_back 1 = .ok (.iconst 0, 1) := dk_3 (dk_at dksX5_back_0 1 rfl rfl)
theorem dX5_back_2 : decode cX5_back 2 = .ok (.invokevirtual 106, 3) := dk_182 0 106 (dk_at dksX5_back_0 2 rfl rfl)
theorem dX5_back_5 : decode cX5_back 5 = .ok (.aload_n 0, 1) := dk_42 (dk_at dksX5_back_0 5 rfl rfl)
theorem dX5_back_6 : decode cX5_back 6 = .ok (.getfield 7, 3) := dk_180 0 7 (dk_at dksX5_back_0 6 rfl rfl)
theorem dX5_back_9 : decode cX5_back 9 = .ok (.sipush 132, 3) := dk_17 0 132 (dk_at dksX5_back_0 9 rfl rfl)
theorem dX5_back_12 : decode cX5_back 12 = .ok (.iaload, 1) := dk_46 (dk_at dksX5_back_0 12 rfl rfl)
theorem dX5_back_13 : decode cX5_back 13 = .ok (.ireturn, 1) := dk_172 (dk_at dksX5_back_0 13 rfl rfl)
abbrev cX5_about : ByteArray := prog_23_method_87_code
def yX5_about : MethodName := ⟨RX5, "about", "(I)I"⟩
def dkwX5_about_7 : List UInt8 := [16, 110, 27, 96, 16, 10, 100, 46, 167, 0, 5, 16, 254, 172]
abbrev dktX5_about_7 : List UInt8 := dkwX5_about_7 ++ []
def dkwX5_about_6 : List UInt8 := [8, 46, 172, 42, 180, 0, 118, 172, 27, 16, 10, 16, 13, 184, 0, 110, 153, 0, 18, 42, 180, 0, 7]
abbrev dktX5_about_6 : List UInt8 := dkwX5_about_6 ++ dktX5_about_7
def dkwX5_about_5 : List UInt8 := [180, 0, 7, 5, 46, 172, 42, 180, 0, 7, 6, 46, 172, 42, 180, 0, 7, 7, 46, 172, 42, 180, 0, 7]
abbrev dktX5_about_5 : List UInt8 := dkwX5_about_5 ++ dktX5_about_6
def dkwX5_about_4 : List UInt8 := [17, 1, 117, 46, 172, 42, 180, 0, 7, 17, 1, 208, 46, 172, 42, 180, 0, 7, 4, 46, 172, 42]
abbrev dktX5_about_4 : List UInt8 := dkwX5_about_4 ++ dktX5_about_5
def dkwX5_about_3 : List UInt8 := [180, 0, 7, 16, 112, 46, 100, 42, 180, 0, 7, 16, 113, 46, 100, 17, 39, 16, 96, 172, 42, 180, 0, 7]
abbrev dktX5_about_3 : List UInt8 := dkwX5_about_3 ++ dktX5_about_4
def dkwX5_about_2 : List UInt8 := [42, 180, 0, 7, 3, 46, 172, 42, 180, 0, 7, 16, 110, 46, 42, 180, 0, 7, 16, 111, 46, 96, 42]
abbrev dktX5_about_2 : List UInt8 := dkwX5_about_2 ++ dktX5_about_3
def dkwX5_about_1 : List UInt8 := [170, 0, 0, 0, 0, 0, 156, 0, 0, 0, 0, 0, 0, 0, 9, 0, 0, 0, 55, 0, 0, 0, 62, 0, 0, 0, 98, 0, 0, 0, 107, 0, 0, 0, 116, 0, 0, 0, 123, 0, 0, 0, 130, 0, 0, 0, 137, 0, 0, 0, 144, 0, 0, 0, 151]
abbrev dktX5_about_1 : List UInt8 := dkwX5_about_1 ++ dktX5_about_2
def dkwX5_about_0 : List UInt8 := [27]
abbrev dktX5_about_0 : List UInt8 := dkwX5_about_0 ++ dktX5_about_1
theorem dksX5_about_0 : cX5_about.data.toList.drop 0 = dktX5_about_0 := by decide +kernel
theorem dksX5_about_1 : cX5_about.data.toList.drop 1 = dktX5_about_1 := dk_seg dksX5_about_0 1 rfl rfl
theorem dksX5_about_2 : cX5_about.data.toList.drop 56 = dktX5_about_2 := dk_seg dksX5_about_1 55 rfl rfl
theorem dksX5_about_3 : cX5_about.data.toList.drop 79 = dktX5_about_3 := dk_seg dksX5_about_2 23 rfl rfl
theorem dksX5_about_4 : cX5_about.data.toList.drop 103 = dktX5_about_4 := dk_seg dksX5_about_3 24 rfl rfl
theorem dksX5_about_5 : cX5_about.data.toList.drop 125 = dktX5_about_5 := dk_seg dksX5_about_4 22 rfl rfl
theorem dksX5_about_6 : cX5_about.data.toList.drop 149 = dktX5_about_6 := dk_seg dksX5_about_5 24 rfl rfl
theorem dksX5_about_7 : cX5_about.data.toList.drop 172 = dktX5_about_7 := dk_seg dksX5_about_6 23 rfl rfl
theorem dX5_about_0 : decode cX5_about 0 = .ok (.iload_n 1, 1) := dk_27 (dk_at dksX5_about_0 0 rfl rfl)
theorem dX5_about_1 : decode cX5_about 1 = .ok (.tableswitch 156 0 9 #[55, 62, 98, 107, 116, 123, 130, 137, 144, 151], 55) := by decide +kernel
theorem dX5_about_56 : decode cX5_about 56 = .ok (.aload_n 0, 1) := dk_42 (dk_at dksX5_about_2 0 rfl rfl)
theorem dX5_about_57 : decode cX5_about 57 = .ok (.getfield 7, 3) := dk_180 0 7 (dk_at dksX5_about_2 1 rfl rfl)
theorem dX5_about_60 : decode cX5_about 60 = .ok (.iconst 0, 1) := dk_3 (dk_at dksX5_about_2 4 rfl rfl)
theorem dX5_about_61 : decode cX5_about 61 = .ok (.iaload, 1) := dk_46 (dk_at dksX5_about_2 5 rfl rfl)
theorem dX5_about_62 : decode cX5_about 62 = .ok (.ireturn, 1) := dk_172 (dk_at dksX5_about_2 6 rfl rfl)
theorem dX5_about_63 : decode cX5_about 63 = .ok (.aload_n 0, 1) := dk_42 (dk_at dksX5_about_2 7 rfl rfl)
theorem dX5_about_64 : decode cX5_about 64 = .ok (.getfield 7, 3) := dk_180 0 7 (dk_at dksX5_about_2 8 rfl rfl)
theorem dX5_about_67 : decode cX5_about 67 = .ok (.bipush 110, 2) := dk_16 110 (dk_at dksX5_about_2 11 rfl rfl)
theorem dX5_about_69 : decode cX5_about 69 = .ok (.iaload, 1) := dk_46 (dk_at dksX5_about_2 13 rfl rfl)
theorem dX5_about_70 : decode cX5_about 70 = .ok (.aload_n 0, 1) := dk_42 (dk_at dksX5_about_2 14 rfl rfl)
theorem dX5_about_71 : decode cX5_about 71 = .ok (.getfield 7, 3) := dk_180 0 7 (dk_at dksX5_about_2 15 rfl rfl)
theorem dX5_about_74 : decode cX5_about 74 = .ok (.bipush 111, 2) := dk_16 111 (dk_at dksX5_about_2 18 rfl rfl)
theorem dX5_about_76 : decode cX5_about 76 = .ok (.iaload, 1) := dk_46 (dk_at dksX5_about_2 20 rfl rfl)
theorem dX5_about_77 : decode cX5_about 77 = .ok (.iadd, 1) := dk_96 (dk_at dksX5_about_2 21 rfl rfl)
theorem dX5_about_78 : decode cX5_about 78 = .ok (.aload_n 0, 1) := dk_42 (dk_at dksX5_about_2 22 rfl rfl)
theorem dX5_about_79 : decode cX5_about 79 = .ok (.getfield 7, 3) := dk_180 0 7 (dk_at dksX5_about_3 0 rfl rfl)
theorem dX5_about_82 : decode cX5_about 82 = .ok (.bipush 112, 2) := dk_16 112 (dk_at dksX5_about_3 3 rfl rfl)
theorem dX5_about_84 : decode cX5_about 84 = .ok (.iaload, 1) := dk_46 (dk_at dksX5_about_3 5 rfl rfl)
theorem dX5_about_85 : decode cX5_about 85 = .ok (.isub, 1) := dk_100 (dk_at dksX5_about_3 6 rfl rfl)
theorem dX5_about_86 : decode cX5_about 86 = .ok (.aload_n 0, 1) := dk_42 (dk_at dksX5_about_3 7 rfl rfl)
theorem dX5_about_87 : decode cX5_about 87 = .ok (.getfield 7, 3) := dk_180 0 7 (dk_at dksX5_about_3 8 rfl rfl)
theorem dX5_about_90 : decode cX5_about 90 = .ok (.bipush 113, 2) := dk_16 113 (dk_at dksX5_about_3 11 rfl rfl)
theorem dX5_about_92 : decode cX5_about 92 = .ok (.iaload, 1) := dk_46 (dk_at dksX5_about_3 13 rfl rfl)
theorem dX5_about_93 : decode cX5_about 93 = .ok (.isub, 1) := dk_100 (dk_at dksX5_about_3 14 rfl rfl)
theorem dX5_about_94 : decode cX5_about 94 = .ok (.sipush 10000, 3) := dk_17 39 16 (dk_at dksX5_about_3 15 rfl rfl)
theorem dX5_about_97 : decode cX5_about 97 = .ok (.iadd, 1) := dk_96 (dk_at dksX5_about_3 18 rfl rfl)
theorem dX5_about_98 : decode cX5_about 98 = .ok (.ireturn, 1) := dk_172 (dk_at dksX5_about_3 19 rfl rfl)
theorem dX5_about_99 : decode cX5_about 99 = .ok (.aload_n 0, 1) := dk_42 (dk_at dksX5_about_3 20 rfl rfl)
theorem dX5_about_100 : decode cX5_about 100 = .ok (.getfield 7, 3) := dk_180 0 7 (dk_at dksX5_about_3 21 rfl rfl)
theorem dX5_about_103 : decode cX5_about 103 = .ok (.sipush 373, 3) := dk_17 1 117 (dk_at dksX5_about_4 0 rfl rfl)
theorem dX5_about_106 : decode cX5_about 106 = .ok (.iaload, 1) := dk_46 (dk_at dksX5_about_4 3 rfl rfl)
theorem dX5_about_107 : decode cX5_about 107 = .ok (.ireturn, 1) := dk_172 (dk_at dksX5_about_4 4 rfl rfl)
theorem dX5_about_108 : decode cX5_about 108 = .ok (.aload_n 0, 1) := dk_42 (dk_at dksX5_about_4 5 rfl rfl)
theorem dX5_about_109 : decode cX5_about 109 = .ok (.getfield 7, 3) := dk_180 0 7 (dk_at dksX5_about_4 6 rfl rfl)
theorem dX5_about_112 : decode cX5_about 112 = .ok (.sipush 464, 3) := dk_17 1 208 (dk_at dksX5_about_4 9 rfl rfl)
theorem dX5_about_115 : decode cX5_about 115 = .ok (.iaload, 1) := dk_46 (dk_at dksX5_about_4 12 rfl rfl)
theorem dX5_about_116 : decode cX5_about 116 = .ok (.ireturn, 1) := dk_172 (dk_at dksX5_about_4 13 rfl rfl)
theorem dX5_about_117 : decode cX5_about 117 = .ok (.aload_n 0, 1) := dk_42 (dk_at dksX5_about_4 14 rfl rfl)
theorem dX5_about_118 : decode cX5_about 118 = .ok (.getfield 7, 3) := dk_180 0 7 (dk_at dksX5_about_4 15 rfl rfl)
theorem dX5_about_121 : decode cX5_about 121 = .ok (.iconst 1, 1) := dk_4 (dk_at dksX5_about_4 18 rfl rfl)
theorem dX5_about_122 : decode cX5_about 122 = .ok (.iaload, 1) := dk_46 (dk_at dksX5_about_4 19 rfl rfl)
theorem dX5_about_123 : decode cX5_about 123 = .ok (.ireturn, 1) := dk_172 (dk_at dksX5_about_4 20 rfl rfl)
theorem dX5_about_124 : decode cX5_about 124 = .ok (.aload_n 0, 1) := dk_42 (dk_at dksX5_about_4 21 rfl rfl)
theorem dX5_about_125 : decode cX5_about 125 = .ok (.getfield 7, 3) := dk_180 0 7 (dk_at dksX5_about_5 0 rfl rfl)
theorem dX5_about_128 : decode cX5_about 128 = .ok (.iconst 2, 1) := dk_5 (dk_at dksX5_about_5 3 rfl rfl)
theorem dX5_about_129 : decode cX5_about 129 = .ok (.iaload, 1) := dk_46 (dk_at dksX5_about_5 4 rfl rfl)
theorem dX5_about_130 : decode cX5_about 130 = .ok (.ireturn, 1) := dk_172 (dk_at dksX5_about_5 5 rfl rfl)
theorem dX5_about_131 : decode cX5_about 131 = .ok (.aload_n 0, 1) := dk_42 (dk_at dksX5_about_5 6 rfl rfl)
theorem dX5_about_132 : decode cX5_about 132 = .ok (.getfield 7, 3) := dk_180 0 7 (dk_at dksX5_about_5 7 rfl rfl)
theorem dX5_about_135 : decode cX5_about 135 = .ok (.iconst 3, 1) := dk_6 (dk_at dksX5_about_5 10 rfl rfl)
theorem dX5_about_136 : decode cX5_about 136 = .ok (.iaload, 1) := dk_46 (dk_at dksX5_about_5 11 rfl rfl)
theorem dX5_about_137 : decode cX5_about 137 = .ok (.ireturn, 1) := dk_172 (dk_at dksX5_about_5 12 rfl rfl)
theorem dX5_about_138 : decode cX5_about 138 = .ok (.aload_n 0, 1) := dk_42 (dk_at dksX5_about_5 13 rfl rfl)
theorem dX5_about_139 : decode cX5_about 139 = .ok (.getfield 7, 3) := dk_180 0 7 (dk_at dksX5_about_5 14 rfl rfl)
theorem dX5_about_142 : decode cX5_about 142 = .ok (.iconst 4, 1) := dk_7 (dk_at dksX5_about_5 17 rfl rfl)
theorem dX5_about_143 : decode cX5_about 143 = .ok (.iaload, 1) := dk_46 (dk_at dksX5_about_5 18 rfl rfl)
theorem dX5_about_144 : decode cX5_about 144 = .ok (.ireturn, 1) := dk_172 (dk_at dksX5_about_5 19 rfl rfl)
theorem dX5_about_145 : decode cX5_about 145 = .ok (.aload_n 0, 1) := dk_42 (dk_at dksX5_about_5 20 rfl rfl)
theorem dX5_about_146 : decode cX5_about 146 = .ok (.getfield 7, 3) := dk_180 0 7 (dk_at dksX5_about_5 21 rfl rfl)
theorem dX5_about_149 : decode cX5_about 149 = .ok (.iconst 5, 1) := dk_8 (dk_at dksX5_about_6 0 rfl rfl)
theorem dX5_about_150 : decode cX5_about 150 = .ok (.iaload, 1) := dk_46 (dk_at dksX5_about_6 1 rfl rfl)
theorem dX5_about_151 : decode cX5_about 151 = .ok (.ireturn, 1) := dk_172 (dk_at dksX5_about_6 2 rfl rfl)
theorem dX5_about_152 : decode cX5_about 152 = .ok (.aload_n 0, 1) := dk_42 (dk_at dksX5_about_6 3 rfl rfl)
theorem dX5_about_153 : decode cX5_about 153 = .ok (.getfield 118, 3) := dk_180 0 118 (dk_at dksX5_about_6 4 rfl rfl)
theorem dX5_about_156 : decode cX5_about 156 = .ok (.ireturn, 1) := dk_172 (dk_at dksX5_about_6 7 rfl rfl)
theorem dX5_about_157 : decode cX5_about 157 = .ok (.iload_n 1, 1) := dk_27 (dk_at dksX5_about_6 8 rfl rfl)
theorem dX5_about_158 : decode cX5_about 158 = .ok (.bipush 10, 2) := dk_16 10 (dk_at dksX5_about_6 9 rfl rfl)
theorem dX5_about_160 : decode cX5_about 160 = .ok (.bipush 13, 2) := dk_16 13 (dk_at dksX5_about_6 11 rfl rfl)
theorem dX5_about_162 : decode cX5_about 162 = .ok (.invokestatic 110, 3) := dk_184 0 110 (dk_at dksX5_about_6 13 rfl rfl)
theorem dX5_about_165 : decode cX5_about 165 = .ok (.ifCond .eq 18, 3) := dk_153 0 18 (dk_at dksX5_about_6 16 rfl rfl)
theorem dX5_about_168 : decode cX5_about 168 = .ok (.aload_n 0, 1) := dk_42 (dk_at dksX5_about_6 19 rfl rfl)
theorem dX5_about_169 : decode cX5_about 169 = .ok (.getfield 7, 3) := dk_180 0 7 (dk_at dksX5_about_6 20 rfl rfl)
theorem dX5_about_172 : decode cX5_about 172 = .ok (.bipush 110, 2) := dk_16 110 (dk_at dksX5_about_7 0 rfl rfl)
theorem dX5_about_174 : decode cX5_about 174 = .ok (.iload_n 1, 1) := dk_27 (dk_at dksX5_about_7 2 rfl rfl)
theorem dX5_about_175 : decode cX5_about 175 = .ok (.iadd, 1) := dk_96 (dk_at dksX5_about_7 3 rfl rfl)
theorem dX5_about_176 : decode cX5_about 176 = .ok (.bipush 10, 2) := dk_16 10 (dk_at dksX5_about_7 4 rfl rfl)
theorem dX5_about_178 : decode cX5_about 178 = .ok (.isub, 1) := dk_100 (dk_at dksX5_about_7 6 rfl rfl)
theorem dX5_about_179 : decode cX5_about 179 = .ok (.iaload, 1) := dk_46 (dk_at dksX5_about_7 7 rfl rfl)
theorem dX5_about_180 : decode cX5_about 180 = .ok (.goto 5, 3) := dk_167 0 5 (dk_at dksX5_about_7 8 rfl rfl)
theorem dX5_about_183 : decode cX5_about 183 = .ok (.bipush (-2), 2) := dk_16 254 (dk_at dksX5_about_7 11 rfl rfl)
theorem dX5_about_185 : decode cX5_about 185 = .ok (.ireturn, 1) := dk_172 (dk_at dksX5_about_7 13 rfl rfl)
theorem q79 : (Jvm.Cond.initialized "SpoonScalesModel") ∈ lw_all := lw_g (lw_at lw_m1 6 rfl) rfl
theorem q1040 : (Jvm.Cond.instantiable "SpoonScalesModel" (48 : Nat)) ∈ lw_all := lw_g (lw_at lw_m5 7 rfl) rfl
theorem q1042 : (Jvm.Cond.instanceMethod ({ cls := "SpoonScalesModel", name := "<init>", desc := "()V" } : Jvm.MethodName)) ∈ lw_all := lw_g (lw_at lw_m5 9 rfl) rfl
theorem q1043 : (Jvm.Cond.code ({ cls := "SpoonScalesModel", name := "<init>", desc := "()V" } : Jvm.MethodName) prog_23_method_1_code (2 : Nat) (Option.none : Option Jvm.ClassFile.FieldType)) ∈ lw_all := lw_g (lw_at lw_m5 10 rfl) rfl
theorem q1044 : (Jvm.Cond.methodLink "SpoonScalesModel" (1 : Nat) ({ cls := "java/lang/Object", name := "<init>", desc := "()V" } : Jvm.MethodName)) ∈ lw_all := lw_g (lw_at lw_m5 11 rfl) rfl
theorem q1045 : (Jvm.Cond.methodLink "SpoonScalesModel" (106 : Nat) ({ cls := "SpoonScalesModel", name := "copies", desc := "(Z)V" } : Jvm.MethodName)) ∈ lw_all := lw_g (lw_at lw_m5 12 rfl) rfl
theorem q1046 : (Jvm.Cond.privateMethod ({ cls := "SpoonScalesModel", name := "copies", desc := "(Z)V" } : Jvm.MethodName)) ∈ lw_tbl := lw_at lw_m5 13 rfl
theorem q1047 : (Jvm.Cond.instanceMethod ({ cls := "SpoonScalesModel", name := "copies", desc := "(Z)V" } : Jvm.MethodName)) ∈ lw_all := lw_g (lw_at lw_m5 14 rfl) rfl
theorem q1048 : (Jvm.Cond.code ({ cls := "SpoonScalesModel", name := "copies", desc := "(Z)V" } : Jvm.MethodName) prog_23_method_3_code (3 : Nat) (Option.none : Option Jvm.ClassFile.FieldType)) ∈ lw_all := lw_g (lw_at lw_m5 15 rfl) rfl
theorem q1049 : (Jvm.Cond.fieldLink "SpoonScalesModel" (7 : Nat) "SpoonScalesModel" "a" "[I") ∈ lw_all := lw_g (lw_at lw_m5 16 rfl) rfl
theorem q1050 : (Jvm.Cond.fieldLink "SpoonScalesModel" (13 : Nat) "SpoonScalesModel" "image" "[I") ∈ lw_all := lw_g (lw_at lw_m5 17 rfl) rfl
theorem q1051 : (Jvm.Cond.fieldLink "SpoonScalesModel" (16 : Nat) "SpoonScalesModel" "tape" "[B") ∈ lw_all := lw_g (lw_at lw_m5 18 rfl) rfl
theorem q1052 : (Jvm.Cond.fieldLink "SpoonScalesModel" (118 : Nat) "SpoonScalesModel" "taped" "I") ∈ lw_all := lw_g (lw_at lw_m5 19 rfl) rfl
theorem q1053 : (Jvm.Cond.fieldLink "SpoonScalesModel" (20 : Nat) "SpoonScalesModel" "fault" "I") ∈ lw_all := lw_g (lw_at lw_m5 20 rfl) rfl
theorem q1054 : (Jvm.Cond.fieldLink "SpoonScalesModel" (24 : Nat) "SpoonScalesModel" "faultAt" "I") ∈ lw_all := lw_g (lw_at lw_m5 21 rfl) rfl
theorem q1055 : (Jvm.Cond.fieldLink "SpoonScalesModel" (27 : Nat) "SpoonScalesModel" "clauses" "[I") ∈ lw_all := lw_g (lw_at lw_m5 22 rfl) rfl
theorem q1056 : (Jvm.Cond.fieldLink "SpoonScalesModel" (30 : Nat) "SpoonScalesModel" "clauseWord" "[I") ∈ lw_all := lw_g (lw_at lw_m5 23 rfl) rfl
theorem q1057 : (Jvm.Cond.fieldLink "SpoonScalesModel" (33 : Nat) "SpoonScalesModel" "clauseAt" "[I") ∈ lw_all := lw_g (lw_at lw_m5 24 rfl) rfl
theorem q1058 : (Jvm.Cond.fieldLink "SpoonScalesModel" (36 : Nat) "SpoonScalesModel" "clauseOne" "[I") ∈ lw_all := lw_g (lw_at lw_m5 25 rfl) rfl
theorem q1059 : (Jvm.Cond.fieldLink "SpoonScalesModel" (39 : Nat) "SpoonScalesModel" "clauseTwo" "[I") ∈ lw_all := lw_g (lw_at lw_m5 26 rfl) rfl
theorem q1060 : (Jvm.Cond.fieldLink "SpoonScalesModel" (42 : Nat) "SpoonScalesModel" "order" "[I") ∈ lw_all := lw_g (lw_at lw_m5 27 rfl) rfl
theorem q1061 : (Jvm.Cond.fieldLink "SpoonScalesModel" (45 : Nat) "SpoonScalesModel" "value" "[I") ∈ lw_all := lw_g (lw_at lw_m5 28 rfl) rfl
theorem q1062 : (Jvm.Cond.fieldLink "SpoonScalesModel" (176 : Nat) "SpoonScalesModel" "length" "I") ∈ lw_all := lw_g (lw_at lw_m5 29 rfl) rfl
theorem q1063 : (Jvm.Cond.fieldLink "SpoonScalesModel" (173 : Nat) "SpoonScalesModel" "at" "I") ∈ lw_all := lw_g (lw_at lw_m5 30 rfl) rfl
theorem q1064 : (Jvm.Cond.fieldLink "SpoonScalesModel" (179 : Nat) "SpoonScalesModel" "token" "I") ∈ lw_all := lw_g (lw_at lw_m5 31 rfl) rfl
theorem q1065 : (Jvm.Cond.fieldLink "SpoonScalesModel" (182 : Nat) "SpoonScalesModel" "sort" "I") ∈ lw_all := lw_g (lw_at lw_m5 32 rfl) rfl
theorem q1066 : (Jvm.Cond.fieldLink "SpoonScalesModel" (194 : Nat) "SpoonScalesModel" "told" "I") ∈ lw_all := lw_g (lw_at lw_m5 33 rfl) rfl
theorem q1067 : (Jvm.Cond.fieldLink "SpoonScalesModel" (198 : Nat) "SpoonScalesModel" "wrong" "I") ∈ lw_all := lw_g (lw_at lw_m5 34 rfl) rfl
theorem q1068 : (Jvm.Cond.fieldLink "SpoonScalesModel" (201 : Nat) "SpoonScalesModel" "wrongAt" "I") ∈ lw_all := lw_g (lw_at lw_m5 35 rfl) rfl
theorem q1069 : (Jvm.Cond.fieldLink "SpoonScalesModel" (210 : Nat) "SpoonScalesModel" "open" "I") ∈ lw_all := lw_g (lw_at lw_m5 36 rfl) rfl
theorem q1070 : (Jvm.Cond.fieldLink "SpoonScalesModel" (207 : Nat) "SpoonScalesModel" "frames" "I") ∈ lw_all := lw_g (lw_at lw_m5 37 rfl) rfl
theorem q1071 : (Jvm.Cond.fieldLink "SpoonScalesModel" (48 : Nat) "SpoonScalesModel" "frame" "[I") ∈ lw_all := lw_g (lw_at lw_m5 38 rfl) rfl
theorem q1072 : (Jvm.Cond.fieldLink "SpoonScalesModel" (51 : Nat) "SpoonScalesModel" "compare" "[I") ∈ lw_all := lw_g (lw_at lw_m5 39 rfl) rfl
theorem q1073 : (Jvm.Cond.fieldLink "SpoonScalesModel" (222 : Nat) "SpoonScalesModel" "waits" "I") ∈ lw_all := lw_g (lw_at lw_m5 40 rfl) rfl
theorem q1074 : (Jvm.Cond.fieldLink "SpoonScalesModel" (54 : Nat) "SpoonScalesModel" "wait" "[I") ∈ lw_all := lw_g (lw_at lw_m5 41 rfl) rfl
theorem q1075 : (Jvm.Cond.fieldLink "SpoonScalesModel" (57 : Nat) "SpoonScalesModel" "waitFrame" "[I") ∈ lw_all := lw_g (lw_at lw_m5 42 rfl) rfl
theorem q1076 : (Jvm.Cond.fieldLink "SpoonScalesModel" (242 : Nat) "SpoonScalesModel" "state" "I") ∈ lw_all := lw_g (lw_at lw_m5 43 rfl) rfl
theorem q1077 : (Jvm.Cond.fieldLink "SpoonScalesModel" (274 : Nat) "SpoonScalesModel" "newClauses" "I") ∈ lw_all := lw_g (lw_at lw_m5 44 rfl) rfl
theorem q1078 : (Jvm.Cond.fieldLink "SpoonScalesModel" (248 : Nat) "SpoonScalesModel" "newKind" "I") ∈ lw_all := lw_g (lw_at lw_m5 45 rfl) rfl
theorem q1079 : (Jvm.Cond.fieldLink "SpoonScalesModel" (60 : Nat) "SpoonScalesModel" "newWord" "[I") ∈ lw_all := lw_g (lw_at lw_m5 46 rfl) rfl
theorem q1080 : (Jvm.Cond.fieldLink "SpoonScalesModel" (63 : Nat) "SpoonScalesModel" "newAt" "[I") ∈ lw_all := lw_g (lw_at lw_m5 47 rfl) rfl
theorem q1081 : (Jvm.Cond.fieldLink "SpoonScalesModel" (66 : Nat) "SpoonScalesModel" "newOne" "[I") ∈ lw_all := lw_g (lw_at lw_m5 48 rfl) rfl
theorem q1082 : (Jvm.Cond.fieldLink "SpoonScalesModel" (69 : Nat) "SpoonScalesModel" "newTwo" "[I") ∈ lw_all := lw_g (lw_at lw_m5 49 rfl) rfl
theorem q1083 : (Jvm.Cond.fieldLink "SpoonScalesModel" (204 : Nat) "SpoonScalesModel" "newOrders" "I") ∈ lw_all := lw_g (lw_at lw_m5 50 rfl) rfl
theorem q1084 : (Jvm.Cond.fieldLink "SpoonScalesModel" (72 : Nat) "SpoonScalesModel" "newOrder" "[I") ∈ lw_all := lw_g (lw_at lw_m5 51 rfl) rfl
theorem q1085 : (Jvm.Cond.fieldLink "SpoonScalesModel" (75 : Nat) "SpoonScalesModel" "newValue" "[I") ∈ lw_all := lw_g (lw_at lw_m5 52 rfl) rfl
theorem q1086 : (Jvm.Cond.fieldLink "SpoonScalesModel" (78 : Nat) "SpoonScalesModel" "name" "[I") ∈ lw_all := lw_g (lw_at lw_m5 53 rfl) rfl
theorem q1087 : (Jvm.Cond.fieldLink "SpoonScalesModel" (81 : Nat) "SpoonScalesModel" "pile" "[J") ∈ lw_all := lw_g (lw_at lw_m5 54 rfl) rfl
theorem q1088 : (Jvm.Cond.fieldLink "SpoonScalesModel" (85 : Nat) "SpoonScalesModel" "pots" "[I") ∈ lw_all := lw_g (lw_at lw_m5 55 rfl) rfl
theorem q1089 : (Jvm.Cond.fieldLink "SpoonScalesModel" (88 : Nat) "SpoonScalesModel" "ate" "[I") ∈ lw_all := lw_g (lw_at lw_m5 56 rfl) rfl
theorem q1090 : (Jvm.Cond.fieldLink "SpoonScalesModel" (314 : Nat) "SpoonScalesModel" "eatenSpoons" "I") ∈ lw_all := lw_g (lw_at lw_m5 57 rfl) rfl
theorem q1091 : (Jvm.Cond.fieldLink "SpoonScalesModel" (91 : Nat) "SpoonScalesModel" "callable" "[I") ∈ lw_all := lw_g (lw_at lw_m5 58 rfl) rfl
theorem q1092 : (Jvm.Cond.fieldLink "SpoonScalesModel" (94 : Nat) "SpoonScalesModel" "called" "[I") ∈ lw_all := lw_g (lw_at lw_m5 59 rfl) rfl
theorem q1093 : (Jvm.Cond.fieldLink "SpoonScalesModel" (97 : Nat) "SpoonScalesModel" "best" "[I") ∈ lw_all := lw_g (lw_at lw_m5 60 rfl) rfl
theorem q1094 : (Jvm.Cond.fieldLink "SpoonScalesModel" (100 : Nat) "SpoonScalesModel" "row" "[I") ∈ lw_all := lw_g (lw_at lw_m5 61 rfl) rfl
theorem q1095 : (Jvm.Cond.fieldLink "SpoonScalesModel" (103 : Nat) "SpoonScalesModel" "bestRow" "[I") ∈ lw_all := lw_g (lw_at lw_m5 62 rfl) rfl
theorem q1096 : (Jvm.Cond.fieldLink "SpoonScalesModel" (382 : Nat) "SpoonScalesModel" "leastHoney" "I") ∈ lw_all := lw_g (lw_at lw_m5 63 rfl) rfl
theorem q1097 : (Jvm.Cond.laysFinal "SpoonScalesModel" "SpoonScalesModel" "a" "[I") ∈ lw_all := lw_g (lw_at lw_m5 64 rfl) rfl
theorem q1098 : (Jvm.Cond.soleField "SpoonScalesModel" "a") ∈ lw_all := lw_g (lw_at lw_m5 65 rfl) rfl
theorem q1099 : (Jvm.Cond.laysFinal "SpoonScalesModel" "SpoonScalesModel" "image" "[I") ∈ lw_all := lw_g (lw_at lw_m5 66 rfl) rfl
theorem q1100 : (Jvm.Cond.soleField "SpoonScalesModel" "image") ∈ lw_all := lw_g (lw_at lw_m5 67 rfl) rfl
theorem q1101 : (Jvm.Cond.laysFinal "SpoonScalesModel" "SpoonScalesModel" "tape" "[B") ∈ lw_all := lw_g (lw_at lw_m5 68 rfl) rfl
theorem q1102 : (Jvm.Cond.soleField "SpoonScalesModel" "tape") ∈ lw_all := lw_g (lw_at lw_m5 69 rfl) rfl
theorem q1103 : (Jvm.Cond.lays "SpoonScalesModel" "SpoonScalesModel" "taped" "I") ∈ lw_all := lw_g (lw_at lw_m5 70 rfl) rfl
theorem q1104 : (Jvm.Cond.soleField "SpoonScalesModel" "taped") ∈ lw_all := lw_g (lw_at lw_m5 71 rfl) rfl
theorem q1105 : (Jvm.Cond.lays "SpoonScalesModel" "SpoonScalesModel" "fault" "I") ∈ lw_all := lw_g (lw_at lw_m5 72 rfl) rfl
theorem q1106 : (Jvm.Cond.soleField "SpoonScalesModel" "fault") ∈ lw_all := lw_g (lw_at lw_m5 73 rfl) rfl
theorem q1107 : (Jvm.Cond.lays "SpoonScalesModel" "SpoonScalesModel" "faultAt" "I") ∈ lw_all := lw_g (lw_at lw_m5 74 rfl) rfl
theorem q1108 : (Jvm.Cond.soleField "SpoonScalesModel" "faultAt") ∈ lw_all := lw_g (lw_at lw_m5 75 rfl) rfl
theorem q1109 : (Jvm.Cond.laysFinal "SpoonScalesModel" "SpoonScalesModel" "clauses" "[I") ∈ lw_all := lw_g (lw_at lw_m5 76 rfl) rfl
theorem q1110 : (Jvm.Cond.soleField "SpoonScalesModel" "clauses") ∈ lw_all := lw_g (lw_at lw_m5 77 rfl) rfl
theorem q1111 : (Jvm.Cond.laysFinal "SpoonScalesModel" "SpoonScalesModel" "clauseWord" "[I") ∈ lw_all := lw_g (lw_at lw_m5 78 rfl) rfl
theorem q1112 : (Jvm.Cond.soleField "SpoonScalesModel" "clauseWord") ∈ lw_all := lw_g (lw_at lw_m5 79 rfl) rfl
theorem q1113 : (Jvm.Cond.laysFinal "SpoonScalesModel" "SpoonScalesModel" "clauseAt" "[I") ∈ lw_all := lw_g (lw_at lw_m5 80 rfl) rfl
theorem q1114 : (Jvm.Cond.soleField "SpoonScalesModel" "clauseAt") ∈ lw_all := lw_g (lw_at lw_m5 81 rfl) rfl
theorem q1115 : (Jvm.Cond.laysFinal "SpoonScalesModel" "SpoonScalesModel" "clauseOne" "[I") ∈ lw_all := lw_g (lw_at lw_m5 82 rfl) rfl
theorem q1116 : (Jvm.Cond.soleField "SpoonScalesModel" "clauseOne") ∈ lw_all := lw_g (lw_at lw_m5 83 rfl) rfl
theorem q1117 : (Jvm.Cond.laysFinal "SpoonScalesModel" "SpoonScalesModel" "clauseTwo" "[I") ∈ lw_all := lw_g (lw_at lw_m5 84 rfl) rfl
theorem q1118 : (Jvm.Cond.soleField "SpoonScalesModel" "clauseTwo") ∈ lw_all := lw_g (lw_at lw_m5 85 rfl) rfl
theorem q1119 : (Jvm.Cond.laysFinal "SpoonScalesModel" "SpoonScalesModel" "order" "[I") ∈ lw_all := lw_g (lw_at lw_m5 86 rfl) rfl
theorem q1120 : (Jvm.Cond.soleField "SpoonScalesModel" "order") ∈ lw_all := lw_g (lw_at lw_m5 87 rfl) rfl
theorem q1121 : (Jvm.Cond.laysFinal "SpoonScalesModel" "SpoonScalesModel" "value" "[I") ∈ lw_all := lw_g (lw_at lw_m5 88 rfl) rfl
theorem q1122 : (Jvm.Cond.soleField "SpoonScalesModel" "value") ∈ lw_all := lw_g (lw_at lw_m5 89 rfl) rfl
theorem q1123 : (Jvm.Cond.lays "SpoonScalesModel" "SpoonScalesModel" "length" "I") ∈ lw_all := lw_g (lw_at lw_m5 90 rfl) rfl
theorem q1124 : (Jvm.Cond.soleField "SpoonScalesModel" "length") ∈ lw_all := lw_g (lw_at lw_m5 91 rfl) rfl
theorem q1125 : (Jvm.Cond.lays "SpoonScalesModel" "SpoonScalesModel" "at" "I") ∈ lw_all := lw_g (lw_at lw_m5 92 rfl) rfl
theorem q1126 : (Jvm.Cond.soleField "SpoonScalesModel" "at") ∈ lw_all := lw_g (lw_at lw_m5 93 rfl) rfl
theorem q1127 : (Jvm.Cond.lays "SpoonScalesModel" "SpoonScalesModel" "token" "I") ∈ lw_all := lw_g (lw_at lw_m5 94 rfl) rfl
theorem q1128 : (Jvm.Cond.soleField "SpoonScalesModel" "token") ∈ lw_all := lw_g (lw_at lw_m5 95 rfl) rfl
theorem q1129 : (Jvm.Cond.lays "SpoonScalesModel" "SpoonScalesModel" "sort" "I") ∈ lw_all := lw_g (lw_at lw_m5 96 rfl) rfl
theorem q1130 : (Jvm.Cond.soleField "SpoonScalesModel" "sort") ∈ lw_all := lw_g (lw_at lw_m5 97 rfl) rfl
theorem q1131 : (Jvm.Cond.lays "SpoonScalesModel" "SpoonScalesModel" "told" "I") ∈ lw_all := lw_g (lw_at lw_m5 98 rfl) rfl
theorem q1132 : (Jvm.Cond.soleField "SpoonScalesModel" "told") ∈ lw_all := lw_g (lw_at lw_m5 99 rfl) rfl
theorem q1133 : (Jvm.Cond.lays "SpoonScalesModel" "SpoonScalesModel" "wrong" "I") ∈ lw_all := lw_g (lw_at lw_m5 100 rfl) rfl
theorem q1134 : (Jvm.Cond.soleField "SpoonScalesModel" "wrong") ∈ lw_all := lw_g (lw_at lw_m5 101 rfl) rfl
theorem q1135 : (Jvm.Cond.lays "SpoonScalesModel" "SpoonScalesModel" "wrongAt" "I") ∈ lw_all := lw_g (lw_at lw_m5 102 rfl) rfl
theorem q1136 : (Jvm.Cond.soleField "SpoonScalesModel" "wrongAt") ∈ lw_all := lw_g (lw_at lw_m5 103 rfl) rfl
theorem q1137 : (Jvm.Cond.lays "SpoonScalesModel" "SpoonScalesModel" "open" "I") ∈ lw_all := lw_g (lw_at lw_m5 104 rfl) rfl
theorem q1138 : (Jvm.Cond.soleField "SpoonScalesModel" "open") ∈ lw_all := lw_g (lw_at lw_m5 105 rfl) rfl
theorem q1139 : (Jvm.Cond.lays "SpoonScalesModel" "SpoonScalesModel" "frames" "I") ∈ lw_all := lw_g (lw_at lw_m5 106 rfl) rfl
theorem q1140 : (Jvm.Cond.soleField "SpoonScalesModel" "frames") ∈ lw_all := lw_g (lw_at lw_m5 107 rfl) rfl
theorem q1141 : (Jvm.Cond.laysFinal "SpoonScalesModel" "SpoonScalesModel" "frame" "[I") ∈ lw_all := lw_g (lw_at lw_m5 108 rfl) rfl
theorem q1142 : (Jvm.Cond.soleField "SpoonScalesModel" "frame") ∈ lw_all := lw_g (lw_at lw_m5 109 rfl) rfl
theorem q1143 : (Jvm.Cond.laysFinal "SpoonScalesModel" "SpoonScalesModel" "compare" "[I") ∈ lw_all := lw_g (lw_at lw_m5 110 rfl) rfl
theorem q1144 : (Jvm.Cond.soleField "SpoonScalesModel" "compare") ∈ lw_all := lw_g (lw_at lw_m5 111 rfl) rfl
theorem q1145 : (Jvm.Cond.lays "SpoonScalesModel" "SpoonScalesModel" "waits" "I") ∈ lw_all := lw_g (lw_at lw_m5 112 rfl) rfl
theorem q1146 : (Jvm.Cond.soleField "SpoonScalesModel" "waits") ∈ lw_all := lw_g (lw_at lw_m5 113 rfl) rfl
theorem q1147 : (Jvm.Cond.laysFinal "SpoonScalesModel" "SpoonScalesModel" "wait" "[I") ∈ lw_all := lw_g (lw_at lw_m5 114 rfl) rfl
theorem q1148 : (Jvm.Cond.soleField "SpoonScalesModel" "wait") ∈ lw_all := lw_g (lw_at lw_m5 115 rfl) rfl
theorem q1149 : (Jvm.Cond.laysFinal "SpoonScalesModel" "SpoonScalesModel" "waitFrame" "[I") ∈ lw_all := lw_g (lw_at lw_m5 116 rfl) rfl
theorem q1150 : (Jvm.Cond.soleField "SpoonScalesModel" "waitFrame") ∈ lw_all := lw_g (lw_at lw_m5 117 rfl) rfl
theorem q1151 : (Jvm.Cond.lays "SpoonScalesModel" "SpoonScalesModel" "state" "I") ∈ lw_all := lw_g (lw_at lw_m5 118 rfl) rfl
theorem q1152 : (Jvm.Cond.soleField "SpoonScalesModel" "state") ∈ lw_all := lw_g (lw_at lw_m5 119 rfl) rfl
theorem q1153 : (Jvm.Cond.lays "SpoonScalesModel" "SpoonScalesModel" "newClauses" "I") ∈ lw_all := lw_g (lw_at lw_m5 120 rfl) rfl
theorem q1154 : (Jvm.Cond.soleField "SpoonScalesModel" "newClauses") ∈ lw_all := lw_g (lw_at lw_m5 121 rfl) rfl
theorem q1155 : (Jvm.Cond.lays "SpoonScalesModel" "SpoonScalesModel" "newKind" "I") ∈ lw_all := lw_g (lw_at lw_m5 122 rfl) rfl
theorem q1156 : (Jvm.Cond.soleField "SpoonScalesModel" "newKind") ∈ lw_all := lw_g (lw_at lw_m5 123 rfl) rfl
theorem q1157 : (Jvm.Cond.laysFinal "SpoonScalesModel" "SpoonScalesModel" "newWord" "[I") ∈ lw_all := lw_g (lw_at lw_m5 124 rfl) rfl
theorem q1158 : (Jvm.Cond.soleField "SpoonScalesModel" "newWord") ∈ lw_all := lw_g (lw_at lw_m5 125 rfl) rfl
theorem q1159 : (Jvm.Cond.laysFinal "SpoonScalesModel" "SpoonScalesModel" "newAt" "[I") ∈ lw_all := lw_g (lw_at lw_m5 126 rfl) rfl
theorem q1160 : (Jvm.Cond.soleField "SpoonScalesModel" "newAt") ∈ lw_all := lw_g (lw_at lw_m5 127 rfl) rfl
theorem q1161 : (Jvm.Cond.laysFinal "SpoonScalesModel" "SpoonScalesModel" "newOne" "[I") ∈ lw_all := lw_g (lw_at lw_m5 128 rfl) rfl
theorem q1162 : (Jvm.Cond.soleField "SpoonScalesModel" "newOne") ∈ lw_all := lw_g (lw_at lw_m5 129 rfl) rfl
theorem q1163 : (Jvm.Cond.laysFinal "SpoonScalesModel" "SpoonScalesModel" "newTwo" "[I") ∈ lw_all := lw_g (lw_at lw_m5 130 rfl) rfl
theorem q1164 : (Jvm.Cond.soleField "SpoonScalesModel" "newTwo") ∈ lw_all := lw_g (lw_at lw_m5 131 rfl) rfl
theorem q1165 : (Jvm.Cond.lays "SpoonScalesModel" "SpoonScalesModel" "newOrders" "I") ∈ lw_all := lw_g (lw_at lw_m5 132 rfl) rfl
theorem q1166 : (Jvm.Cond.soleField "SpoonScalesModel" "newOrders") ∈ lw_all := lw_g (lw_at lw_m5 133 rfl) rfl
theorem q1167 : (Jvm.Cond.laysFinal "SpoonScalesModel" "SpoonScalesModel" "newOrder" "[I") ∈ lw_all := lw_g (lw_at lw_m5 134 rfl) rfl
theorem q1168 : (Jvm.Cond.soleField "SpoonScalesModel" "newOrder") ∈ lw_all := lw_g (lw_at lw_m5 135 rfl) rfl
theorem q1169 : (Jvm.Cond.laysFinal "SpoonScalesModel" "SpoonScalesModel" "newValue" "[I") ∈ lw_all := lw_g (lw_at lw_m5 136 rfl) rfl
theorem q1170 : (Jvm.Cond.soleField "SpoonScalesModel" "newValue") ∈ lw_all := lw_g (lw_at lw_m5 137 rfl) rfl
theorem q1171 : (Jvm.Cond.laysFinal "SpoonScalesModel" "SpoonScalesModel" "name" "[I") ∈ lw_all := lw_g (lw_at lw_m5 138 rfl) rfl
theorem q1172 : (Jvm.Cond.soleField "SpoonScalesModel" "name") ∈ lw_all := lw_g (lw_at lw_m5 139 rfl) rfl
theorem q1173 : (Jvm.Cond.laysFinal "SpoonScalesModel" "SpoonScalesModel" "pile" "[J") ∈ lw_all := lw_g (lw_at lw_m5 140 rfl) rfl
theorem q1174 : (Jvm.Cond.soleField "SpoonScalesModel" "pile") ∈ lw_all := lw_g (lw_at lw_m5 141 rfl) rfl
theorem q1175 : (Jvm.Cond.laysFinal "SpoonScalesModel" "SpoonScalesModel" "pots" "[I") ∈ lw_all := lw_g (lw_at lw_m5 142 rfl) rfl
theorem q1176 : (Jvm.Cond.soleField "SpoonScalesModel" "pots") ∈ lw_all := lw_g (lw_at lw_m5 143 rfl) rfl
theorem q1177 : (Jvm.Cond.laysFinal "SpoonScalesModel" "SpoonScalesModel" "ate" "[I") ∈ lw_all := lw_g (lw_at lw_m5 144 rfl) rfl
theorem q1178 : (Jvm.Cond.soleField "SpoonScalesModel" "ate") ∈ lw_all := lw_g (lw_at lw_m5 145 rfl) rfl
theorem q1179 : (Jvm.Cond.lays "SpoonScalesModel" "SpoonScalesModel" "eatenSpoons" "I") ∈ lw_all := lw_g (lw_at lw_m5 146 rfl) rfl
theorem q1180 : (Jvm.Cond.soleField "SpoonScalesModel" "eatenSpoons") ∈ lw_all := lw_g (lw_at lw_m5 147 rfl) rfl
theorem q1181 : (Jvm.Cond.laysFinal "SpoonScalesModel" "SpoonScalesModel" "callable" "[I") ∈ lw_all := lw_g (lw_at lw_m5 148 rfl) rfl
theorem q1182 : (Jvm.Cond.soleField "SpoonScalesModel" "callable") ∈ lw_all := lw_g (lw_at lw_m5 149 rfl) rfl
theorem q1183 : (Jvm.Cond.laysFinal "SpoonScalesModel" "SpoonScalesModel" "called" "[I") ∈ lw_all := lw_g (lw_at lw_m5 150 rfl) rfl
theorem q1184 : (Jvm.Cond.soleField "SpoonScalesModel" "called") ∈ lw_all := lw_g (lw_at lw_m5 151 rfl) rfl
theorem q1185 : (Jvm.Cond.laysFinal "SpoonScalesModel" "SpoonScalesModel" "best" "[I") ∈ lw_all := lw_g (lw_at lw_m5 152 rfl) rfl
theorem q1186 : (Jvm.Cond.soleField "SpoonScalesModel" "best") ∈ lw_all := lw_g (lw_at lw_m5 153 rfl) rfl
theorem q1187 : (Jvm.Cond.laysFinal "SpoonScalesModel" "SpoonScalesModel" "row" "[I") ∈ lw_all := lw_g (lw_at lw_m5 154 rfl) rfl
theorem q1188 : (Jvm.Cond.soleField "SpoonScalesModel" "row") ∈ lw_all := lw_g (lw_at lw_m5 155 rfl) rfl
theorem q1189 : (Jvm.Cond.laysFinal "SpoonScalesModel" "SpoonScalesModel" "bestRow" "[I") ∈ lw_all := lw_g (lw_at lw_m5 156 rfl) rfl
theorem q1190 : (Jvm.Cond.soleField "SpoonScalesModel" "bestRow") ∈ lw_all := lw_g (lw_at lw_m5 157 rfl) rfl
theorem q1191 : (Jvm.Cond.lays "SpoonScalesModel" "SpoonScalesModel" "leastHoney" "I") ∈ lw_all := lw_g (lw_at lw_m5 158 rfl) rfl
theorem q1192 : (Jvm.Cond.soleField "SpoonScalesModel" "leastHoney") ∈ lw_all := lw_g (lw_at lw_m5 159 rfl) rfl
theorem q1193 : (Jvm.Cond.superclass "SpoonScalesModel" "java/lang/Object") ∈ lw_all := lw_g (lw_at lw_m5 160 rfl) rfl
theorem q1196 : (Jvm.Cond.instanceMethod ({ cls := "SpoonScalesModel", name := "pot", desc := "(III)Z" } : Jvm.MethodName)) ∈ lw_all := lw_g (lw_at lw_m5 163 rfl) rfl
theorem q1197 : (Jvm.Cond.selects "SpoonScalesModel" ({ cls := "SpoonScalesModel", name := "pot", desc := "(III)Z" } : Jvm.MethodName) ({ cls := "SpoonScalesModel", name := "pot", desc := "(III)Z" } : Jvm.MethodName)) ∈ lw_all := lw_g (lw_at lw_m5 164 rfl) rfl
theorem q1198 : (Jvm.Cond.code ({ cls := "SpoonScalesModel", name := "pot", desc := "(III)Z" } : Jvm.MethodName) prog_23_method_6_code (4 : Nat) (Option.some Jvm.ClassFile.FieldType.boolean)) ∈ lw_all := lw_g (lw_at lw_m5 165 rfl) rfl
theorem q1199 : (Jvm.Cond.methodLink "SpoonScalesModel" (114 : Nat) ({ cls := "SpoonScalesModel", name := "isOne", desc := "(I)Z" } : Jvm.MethodName)) ∈ lw_all := lw_g (lw_at lw_m5 166 rfl) rfl
theorem q1200 : (Jvm.Cond.static ({ cls := "SpoonScalesModel", name := "isOne", desc := "(I)Z" } : Jvm.MethodName)) ∈ lw_all := lw_g (lw_at lw_m5 167 rfl) rfl
theorem q1201 : (Jvm.Cond.code ({ cls := "SpoonScalesModel", name := "isOne", desc := "(I)Z" } : Jvm.MethodName) prog_23_method_5_code (1 : Nat) (Option.some Jvm.ClassFile.FieldType.boolean)) ∈ lw_all := lw_g (lw_at lw_m5 168 rfl) rfl
theorem q1202 : (Jvm.Cond.methodLink "SpoonScalesModel" (110 : Nat) ({ cls := "SpoonScalesModel", name := "in", desc := "(III)Z" } : Jvm.MethodName)) ∈ lw_all := lw_g (lw_at lw_m5 169 rfl) rfl
theorem q1203 : (Jvm.Cond.static ({ cls := "SpoonScalesModel", name := "in", desc := "(III)Z" } : Jvm.MethodName)) ∈ lw_all := lw_g (lw_at lw_m5 170 rfl) rfl
theorem q1204 : (Jvm.Cond.code ({ cls := "SpoonScalesModel", name := "in", desc := "(III)Z" } : Jvm.MethodName) prog_23_method_2_code (3 : Nat) (Option.some Jvm.ClassFile.FieldType.boolean)) ∈ lw_all := lw_g (lw_at lw_m5 171 rfl) rfl
theorem q1206 : (Jvm.Cond.instanceMethod ({ cls := "SpoonScalesModel", name := "eater", desc := "(III)I" } : Jvm.MethodName)) ∈ lw_all := lw_g (lw_at lw_m5 173 rfl) rfl
theorem q1207 : (Jvm.Cond.selects "SpoonScalesModel" ({ cls := "SpoonScalesModel", name := "eater", desc := "(III)I" } : Jvm.MethodName) ({ cls := "SpoonScalesModel", name := "eater", desc := "(III)I" } : Jvm.MethodName)) ∈ lw_all := lw_g (lw_at lw_m5 174 rfl) rfl
theorem q1208 : (Jvm.Cond.code ({ cls := "SpoonScalesModel", name := "eater", desc := "(III)I" } : Jvm.MethodName) prog_23_method_7_code (6 : Nat) (Option.some Jvm.ClassFile.FieldType.int)) ∈ lw_all := lw_g (lw_at lw_m5 175 rfl) rfl
theorem q1210 : (Jvm.Cond.instanceMethod ({ cls := "SpoonScalesModel", name := "seed", desc := "(I)Z" } : Jvm.MethodName)) ∈ lw_all := lw_g (lw_at lw_m5 177 rfl) rfl
theorem q1211 : (Jvm.Cond.selects "SpoonScalesModel" ({ cls := "SpoonScalesModel", name := "seed", desc := "(I)Z" } : Jvm.MethodName) ({ cls := "SpoonScalesModel", name := "seed", desc := "(I)Z" } : Jvm.MethodName)) ∈ lw_all := lw_g (lw_at lw_m5 178 rfl) rfl
theorem q1212 : (Jvm.Cond.code ({ cls := "SpoonScalesModel", name := "seed", desc := "(I)Z" } : Jvm.MethodName) prog_23_method_8_code (2 : Nat) (Option.some Jvm.ClassFile.FieldType.boolean)) ∈ lw_all := lw_g (lw_at lw_m5 179 rfl) rfl
theorem q1214 : (Jvm.Cond.instanceMethod ({ cls := "SpoonScalesModel", name := "undo", desc := "()I" } : Jvm.MethodName)) ∈ lw_all := lw_g (lw_at lw_m5 181 rfl) rfl
theorem q1215 : (Jvm.Cond.selects "SpoonScalesModel" ({ cls := "SpoonScalesModel", name := "undo", desc := "()I" } : Jvm.MethodName) ({ cls := "SpoonScalesModel", name := "undo", desc := "()I" } : Jvm.MethodName)) ∈ lw_all := lw_g (lw_at lw_m5 182 rfl) rfl
theorem q1216 : (Jvm.Cond.code ({ cls := "SpoonScalesModel", name := "undo", desc := "()I" } : Jvm.MethodName) prog_23_method_10_code (2 : Nat) (Option.some Jvm.ClassFile.FieldType.int)) ∈ lw_all := lw_g (lw_at lw_m5 183 rfl) rfl
theorem q1218 : (Jvm.Cond.instanceMethod ({ cls := "SpoonScalesModel", name := "feed", desc := "(IIIII)I" } : Jvm.MethodName)) ∈ lw_all := lw_g (lw_at lw_m5 185 rfl) rfl
theorem q1219 : (Jvm.Cond.selects "SpoonScalesModel" ({ cls := "SpoonScalesModel", name := "feed", desc := "(IIIII)I" } : Jvm.MethodName) ({ cls := "SpoonScalesModel", name := "feed", desc := "(IIIII)I" } : Jvm.MethodName)) ∈ lw_all := lw_g (lw_at lw_m5 186 rfl) rfl
theorem q1220 : (Jvm.Cond.code ({ cls := "SpoonScalesModel", name := "feed", desc := "(IIIII)I" } : Jvm.MethodName) prog_23_method_12_code (6 : Nat) (Option.some Jvm.ClassFile.FieldType.int)) ∈ lw_all := lw_g (lw_at lw_m5 187 rfl) rfl
theorem q1221 : (Jvm.Cond.methodLink "SpoonScalesModel" (121 : Nat) ({ cls := "SpoonScalesModel", name := "put", desc := "(I)V" } : Jvm.MethodName)) ∈ lw_all := lw_g (lw_at lw_m5 188 rfl) rfl
theorem q1222 : (Jvm.Cond.privateMethod ({ cls := "SpoonScalesModel", name := "put", desc := "(I)V" } : Jvm.MethodName)) ∈ lw_tbl := lw_at lw_m5 189 rfl
theorem q1223 : (Jvm.Cond.instanceMethod ({ cls := "SpoonScalesModel", name := "put", desc := "(I)V" } : Jvm.MethodName)) ∈ lw_all := lw_g (lw_at lw_m5 190 rfl) rfl
theorem q1224 : (Jvm.Cond.code ({ cls := "SpoonScalesModel", name := "put", desc := "(I)V" } : Jvm.MethodName) prog_23_method_11_code (3 : Nat) (Option.none : Option Jvm.ClassFile.FieldType)) ∈ lw_all := lw_g (lw_at lw_m5 191 rfl) rfl
theorem q1226 : (Jvm.Cond.instanceMethod ({ cls := "SpoonScalesModel", name := "end", desc := "(I)I" } : Jvm.MethodName)) ∈ lw_all := lw_g (lw_at lw_m5 193 rfl) rfl
theorem q1227 : (Jvm.Cond.selects "SpoonScalesModel" ({ cls := "SpoonScalesModel", name := "end", desc := "(I)I" } : Jvm.MethodName) ({ cls := "SpoonScalesModel", name := "end", desc := "(I)I" } : Jvm.MethodName)) ∈ lw_all := lw_g (lw_at lw_m5 194 rfl) rfl
theorem q1228 : (Jvm.Cond.code ({ cls := "SpoonScalesModel", name := "end", desc := "(I)I" } : Jvm.MethodName) prog_23_method_13_code (2 : Nat) (Option.some Jvm.ClassFile.FieldType.int)) ∈ lw_all := lw_g (lw_at lw_m5 195 rfl) rfl
theorem q1230 : (Jvm.Cond.instanceMethod ({ cls := "SpoonScalesModel", name := "text", desc := "()I" } : Jvm.MethodName)) ∈ lw_all := lw_g (lw_at lw_m5 197 rfl) rfl
theorem q1231 : (Jvm.Cond.selects "SpoonScalesModel" ({ cls := "SpoonScalesModel", name := "text", desc := "()I" } : Jvm.MethodName) ({ cls := "SpoonScalesModel", name := "text", desc := "()I" } : Jvm.MethodName)) ∈ lw_all := lw_g (lw_at lw_m5 198 rfl) rfl
theorem q1232 : (Jvm.Cond.code ({ cls := "SpoonScalesModel", name := "text", desc := "()I" } : Jvm.MethodName) prog_23_method_40_code (3 : Nat) (Option.some Jvm.ClassFile.FieldType.int)) ∈ lw_all := lw_g (lw_at lw_m5 199 rfl) rfl
theorem q1233 : (Jvm.Cond.methodLink "SpoonScalesModel" (219 : Nat) ({ cls := "SpoonScalesModel", name := "nextToken", desc := "()V" } : Jvm.MethodName)) ∈ lw_all := lw_g (lw_at lw_m5 200 rfl) rfl
theorem q1234 : (Jvm.Cond.privateMethod ({ cls := "SpoonScalesModel", name := "nextToken", desc := "()V" } : Jvm.MethodName)) ∈ lw_tbl := lw_at lw_m5 201 rfl
theorem q1235 : (Jvm.Cond.instanceMethod ({ cls := "SpoonScalesModel", name := "nextToken", desc := "()V" } : Jvm.MethodName)) ∈ lw_all := lw_g (lw_at lw_m5 202 rfl) rfl
theorem q1236 : (Jvm.Cond.code ({ cls := "SpoonScalesModel", name := "nextToken", desc := "()V" } : Jvm.MethodName) prog_23_method_16_code (5 : Nat) (Option.none : Option Jvm.ClassFile.FieldType)) ∈ lw_all := lw_g (lw_at lw_m5 203 rfl) rfl
theorem q1237 : (Jvm.Cond.methodLink "SpoonScalesModel" (185 : Nat) ({ cls := "SpoonScalesModel", name := "isLetter", desc := "(I)Z" } : Jvm.MethodName)) ∈ lw_all := lw_g (lw_at lw_m5 204 rfl) rfl
theorem q1238 : (Jvm.Cond.static ({ cls := "SpoonScalesModel", name := "isLetter", desc := "(I)Z" } : Jvm.MethodName)) ∈ lw_all := lw_g (lw_at lw_m5 205 rfl) rfl
theorem q1239 : (Jvm.Cond.code ({ cls := "SpoonScalesModel", name := "isLetter", desc := "(I)Z" } : Jvm.MethodName) prog_23_method_14_code (1 : Nat) (Option.some Jvm.ClassFile.FieldType.boolean)) ∈ lw_all := lw_g (lw_at lw_m5 206 rfl) rfl
theorem q1240 : (Jvm.Cond.constantLong "SpoonScalesModel" (188 : Nat) (64 : Int64)) ∈ lw_all := lw_g (lw_at lw_m5 207 rfl) rfl
theorem q1241 : (Jvm.Cond.methodLink "SpoonScalesModel" (190 : Nat) ({ cls := "SpoonScalesModel", name := "wordOf", desc := "(J)I" } : Jvm.MethodName)) ∈ lw_all := lw_g (lw_at lw_m5 208 rfl) rfl
theorem q1242 : (Jvm.Cond.static ({ cls := "SpoonScalesModel", name := "wordOf", desc := "(J)I" } : Jvm.MethodName)) ∈ lw_all := lw_g (lw_at lw_m5 209 rfl) rfl
theorem q1243 : (Jvm.Cond.code ({ cls := "SpoonScalesModel", name := "wordOf", desc := "(J)I" } : Jvm.MethodName) prog_23_method_15_code (2 : Nat) (Option.some Jvm.ClassFile.FieldType.int)) ∈ lw_all := lw_g (lw_at lw_m5 210 rfl) rfl
theorem q1244 : (Jvm.Cond.constantLong "SpoonScalesModel" (125 : Nat) (9837875 : Int64)) ∈ lw_all := lw_g (lw_at lw_m5 211 rfl) rfl
theorem q1245 : (Jvm.Cond.constantLong "SpoonScalesModel" (127 : Nat) (683591987 : Int64)) ∈ lw_all := lw_g (lw_at lw_m5 212 rfl) rfl
theorem q1246 : (Jvm.Cond.constantLong "SpoonScalesModel" (129 : Nat) (42776055097 : Int64)) ∈ lw_all := lw_g (lw_at lw_m5 213 rfl) rfl
theorem q1247 : (Jvm.Cond.constantLong "SpoonScalesModel" (131 : Nat) (211572 : Int64)) ∈ lw_all := lw_g (lw_at lw_m5 214 rfl) rfl
theorem q1248 : (Jvm.Cond.constantLong "SpoonScalesModel" (133 : Nat) (868416494 : Int64)) ∈ lw_all := lw_g (lw_at lw_m5 215 rfl) rfl
theorem q1249 : (Jvm.Cond.constantLong "SpoonScalesModel" (135 : Nat) (718686693 : Int64)) ∈ lw_all := lw_g (lw_at lw_m5 216 rfl) rfl
theorem q1250 : (Jvm.Cond.constantLong "SpoonScalesModel" (137 : Nat) (649238899 : Int64)) ∈ lw_all := lw_g (lw_at lw_m5 217 rfl) rfl
theorem q1251 : (Jvm.Cond.constantLong "SpoonScalesModel" (139 : Nat) (2164 : Int64)) ∈ lw_all := lw_g (lw_at lw_m5 218 rfl) rfl
theorem q1252 : (Jvm.Cond.constantLong "SpoonScalesModel" (141 : Nat) (3046 : Int64)) ∈ lw_all := lw_g (lw_at lw_m5 219 rfl) rfl
theorem q1253 : (Jvm.Cond.constantLong "SpoonScalesModel" (143 : Nat) (3058 : Int64)) ∈ lw_all := lw_g (lw_at lw_m5 220 rfl) rfl
theorem q1254 : (Jvm.Cond.constantLong "SpoonScalesModel" (145 : Nat) (138148 : Int64)) ∈ lw_all := lw_g (lw_at lw_m5 221 rfl) rfl
theorem q1255 : (Jvm.Cond.constantLong "SpoonScalesModel" (147 : Nat) (191476 : Int64)) ∈ lw_all := lw_g (lw_at lw_m5 222 rfl) rfl
theorem q1256 : (Jvm.Cond.constantLong "SpoonScalesModel" (149 : Nat) (629623154 : Int64)) ∈ lw_all := lw_g (lw_at lw_m5 223 rfl) rfl
theorem q1257 : (Jvm.Cond.constantLong "SpoonScalesModel" (151 : Nat) (43851086194 : Int64)) ∈ lw_all := lw_g (lw_at lw_m5 224 rfl) rfl
theorem q1258 : (Jvm.Cond.constantLong "SpoonScalesModel" (153 : Nat) (227925014493747 : Int64)) ∈ lw_all := lw_g (lw_at lw_m5 225 rfl) rfl
theorem q1259 : (Jvm.Cond.constantLong "SpoonScalesModel" (155 : Nat) (629623150 : Int64)) ∈ lw_all := lw_g (lw_at lw_m5 226 rfl) rfl
theorem q1260 : (Jvm.Cond.constantLong "SpoonScalesModel" (157 : Nat) (11443108 : Int64)) ∈ lw_all := lw_g (lw_at lw_m5 227 rfl) rfl
theorem q1261 : (Jvm.Cond.constantLong "SpoonScalesModel" (159 : Nat) (11688372 : Int64)) ∈ lw_all := lw_g (lw_at lw_m5 228 rfl) rfl
theorem q1262 : (Jvm.Cond.constantLong "SpoonScalesModel" (161 : Nat) (55578655667 : Int64)) ∈ lw_all := lw_g (lw_at lw_m5 229 rfl) rfl
theorem q1263 : (Jvm.Cond.constantLong "SpoonScalesModel" (163 : Nat) (13539621 : Int64)) ∈ lw_all := lw_g (lw_at lw_m5 230 rfl) rfl
theorem q1264 : (Jvm.Cond.constantLong "SpoonScalesModel" (165 : Nat) (13802292 : Int64)) ∈ lw_all := lw_g (lw_at lw_m5 231 rfl) rfl
theorem q1265 : (Jvm.Cond.constantLong "SpoonScalesModel" (167 : Nat) (683600249 : Int64)) ∈ lw_all := lw_g (lw_at lw_m5 232 rfl) rfl
theorem q1266 : (Jvm.Cond.constantLong "SpoonScalesModel" (169 : Nat) (13507380 : Int64)) ∈ lw_all := lw_g (lw_at lw_m5 233 rfl) rfl
theorem q1267 : (Jvm.Cond.constantLong "SpoonScalesModel" (171 : Nat) (613870899 : Int64)) ∈ lw_all := lw_g (lw_at lw_m5 234 rfl) rfl
theorem q1268 : (Jvm.Cond.constant "SpoonScalesModel" (197 : Nat) (99999 : Int32)) ∈ lw_all := lw_g (lw_at lw_m5 235 rfl) rfl
theorem q1269 : (Jvm.Cond.methodLink "SpoonScalesModel" (287 : Nat) ({ cls := "SpoonScalesModel", name := "asks", desc := "()V" } : Jvm.MethodName)) ∈ lw_all := lw_g (lw_at lw_m5 236 rfl) rfl
theorem q1270 : (Jvm.Cond.privateMethod ({ cls := "SpoonScalesModel", name := "asks", desc := "()V" } : Jvm.MethodName)) ∈ lw_tbl := lw_at lw_m5 237 rfl
theorem q1271 : (Jvm.Cond.instanceMethod ({ cls := "SpoonScalesModel", name := "asks", desc := "()V" } : Jvm.MethodName)) ∈ lw_all := lw_g (lw_at lw_m5 238 rfl) rfl
theorem q1272 : (Jvm.Cond.code ({ cls := "SpoonScalesModel", name := "asks", desc := "()V" } : Jvm.MethodName) prog_23_method_27_code (2 : Nat) (Option.none : Option Jvm.ClassFile.FieldType)) ∈ lw_all := lw_g (lw_at lw_m5 239 rfl) rfl
theorem q1273 : (Jvm.Cond.methodLink "SpoonScalesModel" (236 : Nat) ({ cls := "SpoonScalesModel", name := "isWord", desc := "(I)Z" } : Jvm.MethodName)) ∈ lw_all := lw_g (lw_at lw_m6 0 rfl) rfl
theorem q1274 : (Jvm.Cond.privateMethod ({ cls := "SpoonScalesModel", name := "isWord", desc := "(I)Z" } : Jvm.MethodName)) ∈ lw_tbl := lw_at lw_m6 1 rfl
theorem q1275 : (Jvm.Cond.instanceMethod ({ cls := "SpoonScalesModel", name := "isWord", desc := "(I)Z" } : Jvm.MethodName)) ∈ lw_all := lw_g (lw_at lw_m6 2 rfl) rfl
theorem q1276 : (Jvm.Cond.code ({ cls := "SpoonScalesModel", name := "isWord", desc := "(I)Z" } : Jvm.MethodName) prog_23_method_18_code (2 : Nat) (Option.some Jvm.ClassFile.FieldType.boolean)) ∈ lw_all := lw_g (lw_at lw_m6 3 rfl) rfl
theorem q1277 : (Jvm.Cond.methodLink "SpoonScalesModel" (239 : Nat) ({ cls := "SpoonScalesModel", name := "opensSign", desc := "(I)Z" } : Jvm.MethodName)) ∈ lw_all := lw_g (lw_at lw_m6 4 rfl) rfl
theorem q1278 : (Jvm.Cond.privateMethod ({ cls := "SpoonScalesModel", name := "opensSign", desc := "(I)Z" } : Jvm.MethodName)) ∈ lw_tbl := lw_at lw_m6 5 rfl
theorem q1279 : (Jvm.Cond.instanceMethod ({ cls := "SpoonScalesModel", name := "opensSign", desc := "(I)Z" } : Jvm.MethodName)) ∈ lw_all := lw_g (lw_at lw_m6 6 rfl) rfl
theorem q1280 : (Jvm.Cond.code ({ cls := "SpoonScalesModel", name := "opensSign", desc := "(I)Z" } : Jvm.MethodName) prog_23_method_23_code (2 : Nat) (Option.some Jvm.ClassFile.FieldType.boolean)) ∈ lw_all := lw_g (lw_at lw_m6 7 rfl) rfl
theorem q1281 : (Jvm.Cond.methodLink "SpoonScalesModel" (213 : Nat) ({ cls := "SpoonScalesModel", name := "errs", desc := "(I)V" } : Jvm.MethodName)) ∈ lw_all := lw_g (lw_at lw_m6 8 rfl) rfl
theorem q1282 : (Jvm.Cond.privateMethod ({ cls := "SpoonScalesModel", name := "errs", desc := "(I)V" } : Jvm.MethodName)) ∈ lw_tbl := lw_at lw_m6 9 rfl
theorem q1283 : (Jvm.Cond.instanceMethod ({ cls := "SpoonScalesModel", name := "errs", desc := "(I)V" } : Jvm.MethodName)) ∈ lw_all := lw_g (lw_at lw_m6 10 rfl) rfl
theorem q1284 : (Jvm.Cond.code ({ cls := "SpoonScalesModel", name := "errs", desc := "(I)V" } : Jvm.MethodName) prog_23_method_19_code (2 : Nat) (Option.none : Option Jvm.ClassFile.FieldType)) ∈ lw_all := lw_g (lw_at lw_m6 11 rfl) rfl
theorem q1285 : (Jvm.Cond.methodLink "SpoonScalesModel" (216 : Nat) ({ cls := "SpoonScalesModel", name := "opensFrame", desc := "(I)V" } : Jvm.MethodName)) ∈ lw_all := lw_g (lw_at lw_m6 12 rfl) rfl
theorem q1286 : (Jvm.Cond.privateMethod ({ cls := "SpoonScalesModel", name := "opensFrame", desc := "(I)V" } : Jvm.MethodName)) ∈ lw_tbl := lw_at lw_m6 13 rfl
theorem q1287 : (Jvm.Cond.instanceMethod ({ cls := "SpoonScalesModel", name := "opensFrame", desc := "(I)V" } : Jvm.MethodName)) ∈ lw_all := lw_g (lw_at lw_m6 14 rfl) rfl
theorem q1288 : (Jvm.Cond.code ({ cls := "SpoonScalesModel", name := "opensFrame", desc := "(I)V" } : Jvm.MethodName) prog_23_method_21_code (2 : Nat) (Option.none : Option Jvm.ClassFile.FieldType)) ∈ lw_all := lw_g (lw_at lw_m6 15 rfl) rfl
theorem q1289 : (Jvm.Cond.methodLink "SpoonScalesModel" (290 : Nat) ({ cls := "SpoonScalesModel", name := "begins", desc := "()V" } : Jvm.MethodName)) ∈ lw_all := lw_g (lw_at lw_m6 16 rfl) rfl
theorem q1290 : (Jvm.Cond.privateMethod ({ cls := "SpoonScalesModel", name := "begins", desc := "()V" } : Jvm.MethodName)) ∈ lw_tbl := lw_at lw_m6 17 rfl
theorem q1291 : (Jvm.Cond.instanceMethod ({ cls := "SpoonScalesModel", name := "begins", desc := "()V" } : Jvm.MethodName)) ∈ lw_all := lw_g (lw_at lw_m6 18 rfl) rfl
theorem q1292 : (Jvm.Cond.code ({ cls := "SpoonScalesModel", name := "begins", desc := "()V" } : Jvm.MethodName) prog_23_method_29_code (2 : Nat) (Option.none : Option Jvm.ClassFile.FieldType)) ∈ lw_all := lw_g (lw_at lw_m6 19 rfl) rfl
theorem q1293 : (Jvm.Cond.methodLink "SpoonScalesModel" (229 : Nat) ({ cls := "SpoonScalesModel", name := "emits", desc := "(II)V" } : Jvm.MethodName)) ∈ lw_all := lw_g (lw_at lw_m6 20 rfl) rfl
theorem q1294 : (Jvm.Cond.privateMethod ({ cls := "SpoonScalesModel", name := "emits", desc := "(II)V" } : Jvm.MethodName)) ∈ lw_tbl := lw_at lw_m6 21 rfl
theorem q1295 : (Jvm.Cond.instanceMethod ({ cls := "SpoonScalesModel", name := "emits", desc := "(II)V" } : Jvm.MethodName)) ∈ lw_all := lw_g (lw_at lw_m6 22 rfl) rfl
theorem q1296 : (Jvm.Cond.code ({ cls := "SpoonScalesModel", name := "emits", desc := "(II)V" } : Jvm.MethodName) prog_23_method_20_code (3 : Nat) (Option.none : Option Jvm.ClassFile.FieldType)) ∈ lw_all := lw_g (lw_at lw_m6 23 rfl) rfl
theorem q1297 : (Jvm.Cond.methodLink "SpoonScalesModel" (245 : Nat) ({ cls := "SpoonScalesModel", name := "oneIsOver", desc := "()V" } : Jvm.MethodName)) ∈ lw_all := lw_g (lw_at lw_m6 24 rfl) rfl
theorem q1298 : (Jvm.Cond.privateMethod ({ cls := "SpoonScalesModel", name := "oneIsOver", desc := "()V" } : Jvm.MethodName)) ∈ lw_tbl := lw_at lw_m6 25 rfl
theorem q1299 : (Jvm.Cond.instanceMethod ({ cls := "SpoonScalesModel", name := "oneIsOver", desc := "()V" } : Jvm.MethodName)) ∈ lw_all := lw_g (lw_at lw_m6 26 rfl) rfl
theorem q1300 : (Jvm.Cond.code ({ cls := "SpoonScalesModel", name := "oneIsOver", desc := "()V" } : Jvm.MethodName) prog_23_method_30_code (1 : Nat) (Option.none : Option Jvm.ClassFile.FieldType)) ∈ lw_all := lw_g (lw_at lw_m6 27 rfl) rfl
theorem q1301 : (Jvm.Cond.methodLink "SpoonScalesModel" (258 : Nat) ({ cls := "SpoonScalesModel", name := "top", desc := "()I" } : Jvm.MethodName)) ∈ lw_all := lw_g (lw_at lw_m6 28 rfl) rfl
theorem q1302 : (Jvm.Cond.privateMethod ({ cls := "SpoonScalesModel", name := "top", desc := "()I" } : Jvm.MethodName)) ∈ lw_tbl := lw_at lw_m6 29 rfl
theorem q1303 : (Jvm.Cond.instanceMethod ({ cls := "SpoonScalesModel", name := "top", desc := "()I" } : Jvm.MethodName)) ∈ lw_all := lw_g (lw_at lw_m6 30 rfl) rfl
theorem q1304 : (Jvm.Cond.code ({ cls := "SpoonScalesModel", name := "top", desc := "()I" } : Jvm.MethodName) prog_23_method_22_code (1 : Nat) (Option.some Jvm.ClassFile.FieldType.int)) ∈ lw_all := lw_g (lw_at lw_m6 31 rfl) rfl
theorem q1305 : (Jvm.Cond.methodLink "SpoonScalesModel" (251 : Nat) ({ cls := "SpoonScalesModel", name := "mayName", desc := "(II)Z" } : Jvm.MethodName)) ∈ lw_all := lw_g (lw_at lw_m6 32 rfl) rfl
theorem q1306 : (Jvm.Cond.static ({ cls := "SpoonScalesModel", name := "mayName", desc := "(II)Z" } : Jvm.MethodName)) ∈ lw_all := lw_g (lw_at lw_m6 33 rfl) rfl
theorem q1307 : (Jvm.Cond.code ({ cls := "SpoonScalesModel", name := "mayName", desc := "(II)Z" } : Jvm.MethodName) prog_23_method_28_code (2 : Nat) (Option.some Jvm.ClassFile.FieldType.boolean)) ∈ lw_all := lw_g (lw_at lw_m6 34 rfl) rfl
theorem q1308 : (Jvm.Cond.methodLink "SpoonScalesModel" (255 : Nat) ({ cls := "SpoonScalesModel", name := "isSign", desc := "(I)Z" } : Jvm.MethodName)) ∈ lw_all := lw_g (lw_at lw_m6 35 rfl) rfl
theorem q1309 : (Jvm.Cond.privateMethod ({ cls := "SpoonScalesModel", name := "isSign", desc := "(I)Z" } : Jvm.MethodName)) ∈ lw_tbl := lw_at lw_m6 36 rfl
theorem q1310 : (Jvm.Cond.instanceMethod ({ cls := "SpoonScalesModel", name := "isSign", desc := "(I)Z" } : Jvm.MethodName)) ∈ lw_all := lw_g (lw_at lw_m6 37 rfl) rfl
theorem q1311 : (Jvm.Cond.code ({ cls := "SpoonScalesModel", name := "isSign", desc := "(I)Z" } : Jvm.MethodName) prog_23_method_17_code (2 : Nat) (Option.some Jvm.ClassFile.FieldType.boolean)) ∈ lw_all := lw_g (lw_at lw_m6 38 rfl) rfl
theorem q1312 : (Jvm.Cond.methodLink "SpoonScalesModel" (293 : Nat) ({ cls := "SpoonScalesModel", name := "goesOn", desc := "()V" } : Jvm.MethodName)) ∈ lw_all := lw_g (lw_at lw_m6 39 rfl) rfl
theorem q1313 : (Jvm.Cond.privateMethod ({ cls := "SpoonScalesModel", name := "goesOn", desc := "()V" } : Jvm.MethodName)) ∈ lw_tbl := lw_at lw_m6 40 rfl
theorem q1314 : (Jvm.Cond.instanceMethod ({ cls := "SpoonScalesModel", name := "goesOn", desc := "()V" } : Jvm.MethodName)) ∈ lw_all := lw_g (lw_at lw_m6 41 rfl) rfl
theorem q1315 : (Jvm.Cond.code ({ cls := "SpoonScalesModel", name := "goesOn", desc := "()V" } : Jvm.MethodName) prog_23_method_33_code (3 : Nat) (Option.none : Option Jvm.ClassFile.FieldType)) ∈ lw_all := lw_g (lw_at lw_m6 42 rfl) rfl
theorem q1316 : (Jvm.Cond.methodLink "SpoonScalesModel" (262 : Nat) ({ cls := "SpoonScalesModel", name := "waitsFor", desc := "(I)V" } : Jvm.MethodName)) ∈ lw_all := lw_g (lw_at lw_m6 43 rfl) rfl
theorem q1317 : (Jvm.Cond.privateMethod ({ cls := "SpoonScalesModel", name := "waitsFor", desc := "(I)V" } : Jvm.MethodName)) ∈ lw_tbl := lw_at lw_m6 44 rfl
theorem q1318 : (Jvm.Cond.instanceMethod ({ cls := "SpoonScalesModel", name := "waitsFor", desc := "(I)V" } : Jvm.MethodName)) ∈ lw_all := lw_g (lw_at lw_m6 45 rfl) rfl
theorem q1319 : (Jvm.Cond.code ({ cls := "SpoonScalesModel", name := "waitsFor", desc := "(I)V" } : Jvm.MethodName) prog_23_method_26_code (2 : Nat) (Option.none : Option Jvm.ClassFile.FieldType)) ∈ lw_all := lw_g (lw_at lw_m6 46 rfl) rfl
theorem q1320 : (Jvm.Cond.methodLink "SpoonScalesModel" (225 : Nat) ({ cls := "SpoonScalesModel", name := "rank", desc := "(I)I" } : Jvm.MethodName)) ∈ lw_all := lw_g (lw_at lw_m6 47 rfl) rfl
theorem q1321 : (Jvm.Cond.static ({ cls := "SpoonScalesModel", name := "rank", desc := "(I)I" } : Jvm.MethodName)) ∈ lw_all := lw_g (lw_at lw_m6 48 rfl) rfl
theorem q1322 : (Jvm.Cond.code ({ cls := "SpoonScalesModel", name := "rank", desc := "(I)I" } : Jvm.MethodName) prog_23_method_24_code (1 : Nat) (Option.some Jvm.ClassFile.FieldType.int)) ∈ lw_all := lw_g (lw_at lw_m6 49 rfl) rfl
theorem q1323 : (Jvm.Cond.methodLink "SpoonScalesModel" (233 : Nat) ({ cls := "SpoonScalesModel", name := "works", desc := "(I)V" } : Jvm.MethodName)) ∈ lw_all := lw_g (lw_at lw_m6 50 rfl) rfl
theorem q1324 : (Jvm.Cond.privateMethod ({ cls := "SpoonScalesModel", name := "works", desc := "(I)V" } : Jvm.MethodName)) ∈ lw_tbl := lw_at lw_m6 51 rfl
theorem q1325 : (Jvm.Cond.instanceMethod ({ cls := "SpoonScalesModel", name := "works", desc := "(I)V" } : Jvm.MethodName)) ∈ lw_all := lw_g (lw_at lw_m6 52 rfl) rfl
theorem q1326 : (Jvm.Cond.code ({ cls := "SpoonScalesModel", name := "works", desc := "(I)V" } : Jvm.MethodName) prog_23_method_25_code (2 : Nat) (Option.none : Option Jvm.ClassFile.FieldType)) ∈ lw_all := lw_g (lw_at lw_m6 53 rfl) rfl
theorem q1327 : (Jvm.Cond.methodLink "SpoonScalesModel" (265 : Nat) ({ cls := "SpoonScalesModel", name := "isAsking", desc := "(I)Z" } : Jvm.MethodName)) ∈ lw_all := lw_g (lw_at lw_m6 54 rfl) rfl
theorem q1328 : (Jvm.Cond.static ({ cls := "SpoonScalesModel", name := "isAsking", desc := "(I)Z" } : Jvm.MethodName)) ∈ lw_all := lw_g (lw_at lw_m6 55 rfl) rfl
theorem q1329 : (Jvm.Cond.code ({ cls := "SpoonScalesModel", name := "isAsking", desc := "(I)Z" } : Jvm.MethodName) prog_23_method_32_code (1 : Nat) (Option.some Jvm.ClassFile.FieldType.boolean)) ∈ lw_all := lw_g (lw_at lw_m6 56 rfl) rfl
theorem q1330 : (Jvm.Cond.methodLink "SpoonScalesModel" (268 : Nat) ({ cls := "SpoonScalesModel", name := "askIsOver", desc := "()V" } : Jvm.MethodName)) ∈ lw_all := lw_g (lw_at lw_m6 57 rfl) rfl
theorem q1331 : (Jvm.Cond.privateMethod ({ cls := "SpoonScalesModel", name := "askIsOver", desc := "()V" } : Jvm.MethodName)) ∈ lw_tbl := lw_at lw_m6 58 rfl
theorem q1332 : (Jvm.Cond.instanceMethod ({ cls := "SpoonScalesModel", name := "askIsOver", desc := "()V" } : Jvm.MethodName)) ∈ lw_all := lw_g (lw_at lw_m6 59 rfl) rfl
theorem q1333 : (Jvm.Cond.code ({ cls := "SpoonScalesModel", name := "askIsOver", desc := "()V" } : Jvm.MethodName) prog_23_method_31_code (1 : Nat) (Option.none : Option Jvm.ClassFile.FieldType)) ∈ lw_all := lw_g (lw_at lw_m6 60 rfl) rfl
theorem q1334 : (Jvm.Cond.methodLink "SpoonScalesModel" (271 : Nat) ({ cls := "SpoonScalesModel", name := "clauseIsOver", desc := "()V" } : Jvm.MethodName)) ∈ lw_all := lw_g (lw_at lw_m6 61 rfl) rfl
theorem q1335 : (Jvm.Cond.privateMethod ({ cls := "SpoonScalesModel", name := "clauseIsOver", desc := "()V" } : Jvm.MethodName)) ∈ lw_tbl := lw_at lw_m6 62 rfl
theorem q1336 : (Jvm.Cond.instanceMethod ({ cls := "SpoonScalesModel", name := "clauseIsOver", desc := "()V" } : Jvm.MethodName)) ∈ lw_all := lw_g (lw_at lw_m6 63 rfl) rfl
theorem q1337 : (Jvm.Cond.code ({ cls := "SpoonScalesModel", name := "clauseIsOver", desc := "()V" } : Jvm.MethodName) prog_23_method_35_code (1 : Nat) (Option.none : Option Jvm.ClassFile.FieldType)) ∈ lw_all := lw_g (lw_at lw_m6 64 rfl) rfl
theorem q1338 : (Jvm.Cond.methodLink "SpoonScalesModel" (296 : Nat) ({ cls := "SpoonScalesModel", name := "asksOn", desc := "()V" } : Jvm.MethodName)) ∈ lw_all := lw_g (lw_at lw_m6 65 rfl) rfl
theorem q1339 : (Jvm.Cond.privateMethod ({ cls := "SpoonScalesModel", name := "asksOn", desc := "()V" } : Jvm.MethodName)) ∈ lw_tbl := lw_at lw_m6 66 rfl
theorem q1340 : (Jvm.Cond.instanceMethod ({ cls := "SpoonScalesModel", name := "asksOn", desc := "()V" } : Jvm.MethodName)) ∈ lw_all := lw_g (lw_at lw_m6 67 rfl) rfl
theorem q1341 : (Jvm.Cond.code ({ cls := "SpoonScalesModel", name := "asksOn", desc := "()V" } : Jvm.MethodName) prog_23_method_34_code (1 : Nat) (Option.none : Option Jvm.ClassFile.FieldType)) ∈ lw_all := lw_g (lw_at lw_m6 68 rfl) rfl
theorem q1342 : (Jvm.Cond.methodLink "SpoonScalesModel" (299 : Nat) ({ cls := "SpoonScalesModel", name := "clause", desc := "()V" } : Jvm.MethodName)) ∈ lw_all := lw_g (lw_at lw_m6 69 rfl) rfl
theorem q1343 : (Jvm.Cond.privateMethod ({ cls := "SpoonScalesModel", name := "clause", desc := "()V" } : Jvm.MethodName)) ∈ lw_tbl := lw_at lw_m6 70 rfl
theorem q1344 : (Jvm.Cond.instanceMethod ({ cls := "SpoonScalesModel", name := "clause", desc := "()V" } : Jvm.MethodName)) ∈ lw_all := lw_g (lw_at lw_m6 71 rfl) rfl
theorem q1345 : (Jvm.Cond.code ({ cls := "SpoonScalesModel", name := "clause", desc := "()V" } : Jvm.MethodName) prog_23_method_39_code (1 : Nat) (Option.none : Option Jvm.ClassFile.FieldType)) ∈ lw_all := lw_g (lw_at lw_m6 72 rfl) rfl
theorem q1346 : (Jvm.Cond.methodLink "SpoonScalesModel" (277 : Nat) ({ cls := "SpoonScalesModel", name := "wasTold", desc := "(I)Z" } : Jvm.MethodName)) ∈ lw_all := lw_g (lw_at lw_m6 73 rfl) rfl
theorem q1347 : (Jvm.Cond.privateMethod ({ cls := "SpoonScalesModel", name := "wasTold", desc := "(I)Z" } : Jvm.MethodName)) ∈ lw_tbl := lw_at lw_m6 74 rfl
theorem q1348 : (Jvm.Cond.instanceMethod ({ cls := "SpoonScalesModel", name := "wasTold", desc := "(I)Z" } : Jvm.MethodName)) ∈ lw_all := lw_g (lw_at lw_m6 75 rfl) rfl
theorem q1349 : (Jvm.Cond.code ({ cls := "SpoonScalesModel", name := "wasTold", desc := "(I)Z" } : Jvm.MethodName) prog_23_method_37_code (4 : Nat) (Option.some Jvm.ClassFile.FieldType.boolean)) ∈ lw_all := lw_g (lw_at lw_m6 76 rfl) rfl
theorem q1350 : (Jvm.Cond.methodLink "SpoonScalesModel" (280 : Nat) ({ cls := "SpoonScalesModel", name := "number", desc := "(II)I" } : Jvm.MethodName)) ∈ lw_all := lw_g (lw_at lw_m6 77 rfl) rfl
theorem q1351 : (Jvm.Cond.privateMethod ({ cls := "SpoonScalesModel", name := "number", desc := "(II)I" } : Jvm.MethodName)) ∈ lw_tbl := lw_at lw_m6 78 rfl
theorem q1352 : (Jvm.Cond.instanceMethod ({ cls := "SpoonScalesModel", name := "number", desc := "(II)I" } : Jvm.MethodName)) ∈ lw_all := lw_g (lw_at lw_m6 79 rfl) rfl
theorem q1353 : (Jvm.Cond.code ({ cls := "SpoonScalesModel", name := "number", desc := "(II)I" } : Jvm.MethodName) prog_23_method_36_code (4 : Nat) (Option.some Jvm.ClassFile.FieldType.int)) ∈ lw_all := lw_g (lw_at lw_m6 80 rfl) rfl
theorem q1354 : (Jvm.Cond.methodLink "SpoonScalesModel" (284 : Nat) ({ cls := "SpoonScalesModel", name := "wants", desc := "(I)V" } : Jvm.MethodName)) ∈ lw_all := lw_g (lw_at lw_m6 81 rfl) rfl
theorem q1355 : (Jvm.Cond.privateMethod ({ cls := "SpoonScalesModel", name := "wants", desc := "(I)V" } : Jvm.MethodName)) ∈ lw_tbl := lw_at lw_m6 82 rfl
theorem q1356 : (Jvm.Cond.instanceMethod ({ cls := "SpoonScalesModel", name := "wants", desc := "(I)V" } : Jvm.MethodName)) ∈ lw_all := lw_g (lw_at lw_m6 83 rfl) rfl
theorem q1357 : (Jvm.Cond.code ({ cls := "SpoonScalesModel", name := "wants", desc := "(I)V" } : Jvm.MethodName) prog_23_method_38_code (2 : Nat) (Option.none : Option Jvm.ClassFile.FieldType)) ∈ lw_all := lw_g (lw_at lw_m6 84 rfl) rfl
theorem q1359 : (Jvm.Cond.instanceMethod ({ cls := "SpoonScalesModel", name := "fault", desc := "(I)I" } : Jvm.MethodName)) ∈ lw_all := lw_g (lw_at lw_m6 86 rfl) rfl
theorem q1360 : (Jvm.Cond.selects "SpoonScalesModel" ({ cls := "SpoonScalesModel", name := "fault", desc := "(I)I" } : Jvm.MethodName) ({ cls := "SpoonScalesModel", name := "fault", desc := "(I)I" } : Jvm.MethodName)) ∈ lw_all := lw_g (lw_at lw_m6 87 rfl) rfl
theorem q1361 : (Jvm.Cond.code ({ cls := "SpoonScalesModel", name := "fault", desc := "(I)I" } : Jvm.MethodName) prog_23_method_41_code (2 : Nat) (Option.some Jvm.ClassFile.FieldType.int)) ∈ lw_all := lw_g (lw_at lw_m6 88 rfl) rfl
theorem q1363 : (Jvm.Cond.instanceMethod ({ cls := "SpoonScalesModel", name := "by", desc := "(I)Z" } : Jvm.MethodName)) ∈ lw_all := lw_g (lw_at lw_m6 90 rfl) rfl
theorem q1364 : (Jvm.Cond.selects "SpoonScalesModel" ({ cls := "SpoonScalesModel", name := "by", desc := "(I)Z" } : Jvm.MethodName) ({ cls := "SpoonScalesModel", name := "by", desc := "(I)Z" } : Jvm.MethodName)) ∈ lw_all := lw_g (lw_at lw_m6 91 rfl) rfl
theorem q1365 : (Jvm.Cond.code ({ cls := "SpoonScalesModel", name := "by", desc := "(I)Z" } : Jvm.MethodName) prog_23_method_45_code (2 : Nat) (Option.some Jvm.ClassFile.FieldType.boolean)) ∈ lw_all := lw_g (lw_at lw_m6 92 rfl) rfl
theorem q1367 : (Jvm.Cond.instanceMethod ({ cls := "SpoonScalesModel", name := "sit", desc := "(II)Z" } : Jvm.MethodName)) ∈ lw_all := lw_g (lw_at lw_m6 94 rfl) rfl
theorem q1368 : (Jvm.Cond.selects "SpoonScalesModel" ({ cls := "SpoonScalesModel", name := "sit", desc := "(II)Z" } : Jvm.MethodName) ({ cls := "SpoonScalesModel", name := "sit", desc := "(II)Z" } : Jvm.MethodName)) ∈ lw_all := lw_g (lw_at lw_m6 95 rfl) rfl
theorem q1369 : (Jvm.Cond.code ({ cls := "SpoonScalesModel", name := "sit", desc := "(II)Z" } : Jvm.MethodName) prog_23_method_56_code (3 : Nat) (Option.some Jvm.ClassFile.FieldType.boolean)) ∈ lw_all := lw_g (lw_at lw_m6 96 rfl) rfl
theorem q1370 : (Jvm.Cond.methodLink "SpoonScalesModel" (343 : Nat) ({ cls := "SpoonScalesModel", name := "isEater", desc := "(I)Z" } : Jvm.MethodName)) ∈ lw_all := lw_g (lw_at lw_m6 97 rfl) rfl
theorem q1371 : (Jvm.Cond.privateMethod ({ cls := "SpoonScalesModel", name := "isEater", desc := "(I)Z" } : Jvm.MethodName)) ∈ lw_tbl := lw_at lw_m6 98 rfl
theorem q1372 : (Jvm.Cond.instanceMethod ({ cls := "SpoonScalesModel", name := "isEater", desc := "(I)Z" } : Jvm.MethodName)) ∈ lw_all := lw_g (lw_at lw_m6 99 rfl) rfl
theorem q1373 : (Jvm.Cond.code ({ cls := "SpoonScalesModel", name := "isEater", desc := "(I)Z" } : Jvm.MethodName) prog_23_method_4_code (2 : Nat) (Option.some Jvm.ClassFile.FieldType.boolean)) ∈ lw_all := lw_g (lw_at lw_m6 100 rfl) rfl
theorem q1374 : (Jvm.Cond.methodLink "SpoonScalesModel" (346 : Nat) ({ cls := "SpoonScalesModel", name := "keepsStep", desc := "()V" } : Jvm.MethodName)) ∈ lw_all := lw_g (lw_at lw_m6 101 rfl) rfl
theorem q1375 : (Jvm.Cond.privateMethod ({ cls := "SpoonScalesModel", name := "keepsStep", desc := "()V" } : Jvm.MethodName)) ∈ lw_tbl := lw_at lw_m6 102 rfl
theorem q1376 : (Jvm.Cond.instanceMethod ({ cls := "SpoonScalesModel", name := "keepsStep", desc := "()V" } : Jvm.MethodName)) ∈ lw_all := lw_g (lw_at lw_m6 103 rfl) rfl
theorem q1377 : (Jvm.Cond.code ({ cls := "SpoonScalesModel", name := "keepsStep", desc := "()V" } : Jvm.MethodName) prog_23_method_9_code (2 : Nat) (Option.none : Option Jvm.ClassFile.FieldType)) ∈ lw_all := lw_g (lw_at lw_m6 104 rfl) rfl
theorem q1379 : (Jvm.Cond.instanceMethod ({ cls := "SpoonScalesModel", name := "spoon", desc := "(II)I" } : Jvm.MethodName)) ∈ lw_all := lw_g (lw_at lw_m6 106 rfl) rfl
theorem q1380 : (Jvm.Cond.selects "SpoonScalesModel" ({ cls := "SpoonScalesModel", name := "spoon", desc := "(II)I" } : Jvm.MethodName) ({ cls := "SpoonScalesModel", name := "spoon", desc := "(II)I" } : Jvm.MethodName)) ∈ lw_all := lw_g (lw_at lw_m6 107 rfl) rfl
theorem q1381 : (Jvm.Cond.code ({ cls := "SpoonScalesModel", name := "spoon", desc := "(II)I" } : Jvm.MethodName) prog_23_method_57_code (6 : Nat) (Option.some Jvm.ClassFile.FieldType.int)) ∈ lw_all := lw_g (lw_at lw_m6 108 rfl) rfl
theorem q1382 : (Jvm.Cond.methodLink "SpoonScalesModel" (349 : Nat) ({ cls := "SpoonScalesModel", name := "laysWorld", desc := "()V" } : Jvm.MethodName)) ∈ lw_all := lw_g (lw_at lw_m6 109 rfl) rfl
theorem q1383 : (Jvm.Cond.privateMethod ({ cls := "SpoonScalesModel", name := "laysWorld", desc := "()V" } : Jvm.MethodName)) ∈ lw_tbl := lw_at lw_m6 110 rfl
theorem q1384 : (Jvm.Cond.instanceMethod ({ cls := "SpoonScalesModel", name := "laysWorld", desc := "()V" } : Jvm.MethodName)) ∈ lw_all := lw_g (lw_at lw_m6 111 rfl) rfl
theorem q1385 : (Jvm.Cond.code ({ cls := "SpoonScalesModel", name := "laysWorld", desc := "()V" } : Jvm.MethodName) prog_23_method_47_code (2 : Nat) (Option.none : Option Jvm.ClassFile.FieldType)) ∈ lw_all := lw_g (lw_at lw_m6 112 rfl) rfl
theorem q1386 : (Jvm.Cond.methodLink "SpoonScalesModel" (337 : Nat) ({ cls := "SpoonScalesModel", name := "spoonOf", desc := "(II)I" } : Jvm.MethodName)) ∈ lw_all := lw_g (lw_at lw_m6 113 rfl) rfl
theorem q1387 : (Jvm.Cond.privateMethod ({ cls := "SpoonScalesModel", name := "spoonOf", desc := "(II)I" } : Jvm.MethodName)) ∈ lw_tbl := lw_at lw_m6 114 rfl
theorem q1388 : (Jvm.Cond.instanceMethod ({ cls := "SpoonScalesModel", name := "spoonOf", desc := "(II)I" } : Jvm.MethodName)) ∈ lw_all := lw_g (lw_at lw_m6 115 rfl) rfl
theorem q1389 : (Jvm.Cond.code ({ cls := "SpoonScalesModel", name := "spoonOf", desc := "(II)I" } : Jvm.MethodName) prog_23_method_52_code (8 : Nat) (Option.some Jvm.ClassFile.FieldType.int)) ∈ lw_all := lw_g (lw_at lw_m6 116 rfl) rfl
theorem q1390 : (Jvm.Cond.methodLink "SpoonScalesModel" (331 : Nat) ({ cls := "SpoonScalesModel", name := "stillHolds", desc := "(I)I" } : Jvm.MethodName)) ∈ lw_all := lw_g (lw_at lw_m6 117 rfl) rfl
theorem q1391 : (Jvm.Cond.privateMethod ({ cls := "SpoonScalesModel", name := "stillHolds", desc := "(I)I" } : Jvm.MethodName)) ∈ lw_tbl := lw_at lw_m6 118 rfl
theorem q1392 : (Jvm.Cond.instanceMethod ({ cls := "SpoonScalesModel", name := "stillHolds", desc := "(I)I" } : Jvm.MethodName)) ∈ lw_all := lw_g (lw_at lw_m6 119 rfl) rfl
theorem q1393 : (Jvm.Cond.code ({ cls := "SpoonScalesModel", name := "stillHolds", desc := "(I)I" } : Jvm.MethodName) prog_23_method_51_code (4 : Nat) (Option.some Jvm.ClassFile.FieldType.int)) ∈ lw_all := lw_g (lw_at lw_m6 120 rfl) rfl
theorem q1394 : (Jvm.Cond.methodLink "SpoonScalesModel" (317 : Nat) ({ cls := "SpoonScalesModel", name := "ordersOf", desc := "(I)I" } : Jvm.MethodName)) ∈ lw_all := lw_g (lw_at lw_m6 121 rfl) rfl
theorem q1395 : (Jvm.Cond.privateMethod ({ cls := "SpoonScalesModel", name := "ordersOf", desc := "(I)I" } : Jvm.MethodName)) ∈ lw_tbl := lw_at lw_m6 122 rfl
theorem q1396 : (Jvm.Cond.instanceMethod ({ cls := "SpoonScalesModel", name := "ordersOf", desc := "(I)I" } : Jvm.MethodName)) ∈ lw_all := lw_g (lw_at lw_m6 123 rfl) rfl
theorem q1397 : (Jvm.Cond.code ({ cls := "SpoonScalesModel", name := "ordersOf", desc := "(I)I" } : Jvm.MethodName) prog_23_method_46_code (5 : Nat) (Option.some Jvm.ClassFile.FieldType.int)) ∈ lw_all := lw_g (lw_at lw_m6 124 rfl) rfl
theorem q1398 : (Jvm.Cond.methodLink "SpoonScalesModel" (320 : Nat) ({ cls := "SpoonScalesModel", name := "names", desc := "(I)V" } : Jvm.MethodName)) ∈ lw_all := lw_g (lw_at lw_m6 125 rfl) rfl
theorem q1399 : (Jvm.Cond.privateMethod ({ cls := "SpoonScalesModel", name := "names", desc := "(I)V" } : Jvm.MethodName)) ∈ lw_tbl := lw_at lw_m6 126 rfl
theorem q1400 : (Jvm.Cond.instanceMethod ({ cls := "SpoonScalesModel", name := "names", desc := "(I)V" } : Jvm.MethodName)) ∈ lw_all := lw_g (lw_at lw_m6 127 rfl) rfl
theorem q1401 : (Jvm.Cond.code ({ cls := "SpoonScalesModel", name := "names", desc := "(I)V" } : Jvm.MethodName) prog_23_method_50_code (2 : Nat) (Option.none : Option Jvm.ClassFile.FieldType)) ∈ lw_all := lw_g (lw_at lw_m6 128 rfl) rfl
theorem q1402 : (Jvm.Cond.methodLink "SpoonScalesModel" (323 : Nat) ({ cls := "SpoonScalesModel", name := "saysOf", desc := "(I)J" } : Jvm.MethodName)) ∈ lw_all := lw_g (lw_at lw_m6 129 rfl) rfl
theorem q1403 : (Jvm.Cond.privateMethod ({ cls := "SpoonScalesModel", name := "saysOf", desc := "(I)J" } : Jvm.MethodName)) ∈ lw_tbl := lw_at lw_m6 130 rfl
theorem q1404 : (Jvm.Cond.instanceMethod ({ cls := "SpoonScalesModel", name := "saysOf", desc := "(I)J" } : Jvm.MethodName)) ∈ lw_all := lw_g (lw_at lw_m6 131 rfl) rfl
theorem q1405 : (Jvm.Cond.code ({ cls := "SpoonScalesModel", name := "saysOf", desc := "(I)J" } : Jvm.MethodName) prog_23_method_44_code (5 : Nat) (Option.some Jvm.ClassFile.FieldType.long)) ∈ lw_all := lw_g (lw_at lw_m6 132 rfl) rfl
theorem q1406 : (Jvm.Cond.methodLink "SpoonScalesModel" (310 : Nat) ({ cls := "SpoonScalesModel", name := "worked", desc := "(IJJ)J" } : Jvm.MethodName)) ∈ lw_all := lw_g (lw_at lw_m6 133 rfl) rfl
theorem q1407 : (Jvm.Cond.static ({ cls := "SpoonScalesModel", name := "worked", desc := "(IJJ)J" } : Jvm.MethodName)) ∈ lw_all := lw_g (lw_at lw_m6 134 rfl) rfl
theorem q1408 : (Jvm.Cond.code ({ cls := "SpoonScalesModel", name := "worked", desc := "(IJJ)J" } : Jvm.MethodName) prog_23_method_43_code (5 : Nat) (Option.some Jvm.ClassFile.FieldType.long)) ∈ lw_all := lw_g (lw_at lw_m6 135 rfl) rfl
theorem q1409 : (Jvm.Cond.methodLink "SpoonScalesModel" (306 : Nat) ({ cls := "SpoonScalesModel", name := "bound", desc := "(J)J" } : Jvm.MethodName)) ∈ lw_all := lw_g (lw_at lw_m6 136 rfl) rfl
theorem q1410 : (Jvm.Cond.static ({ cls := "SpoonScalesModel", name := "bound", desc := "(J)J" } : Jvm.MethodName)) ∈ lw_all := lw_g (lw_at lw_m6 137 rfl) rfl
theorem q1411 : (Jvm.Cond.code ({ cls := "SpoonScalesModel", name := "bound", desc := "(J)J" } : Jvm.MethodName) prog_23_method_42_code (2 : Nat) (Option.some Jvm.ClassFile.FieldType.long)) ∈ lw_all := lw_g (lw_at lw_m6 138 rfl) rfl
theorem q1412 : (Jvm.Cond.constantLong "SpoonScalesModel" (302 : Nat) (1000000 : Int64)) ∈ lw_all := lw_g (lw_at lw_m6 139 rfl) rfl
theorem q1413 : (Jvm.Cond.constantLong "SpoonScalesModel" (304 : Nat) (-1000000 : Int64)) ∈ lw_all := lw_g (lw_at lw_m6 140 rfl) rfl
theorem q1414 : (Jvm.Cond.methodLink "SpoonScalesModel" (327 : Nat) ({ cls := "SpoonScalesModel", name := "held", desc := "(JII)I" } : Jvm.MethodName)) ∈ lw_all := lw_g (lw_at lw_m6 141 rfl) rfl
theorem q1415 : (Jvm.Cond.static ({ cls := "SpoonScalesModel", name := "held", desc := "(JII)I" } : Jvm.MethodName)) ∈ lw_all := lw_g (lw_at lw_m6 142 rfl) rfl
theorem q1416 : (Jvm.Cond.code ({ cls := "SpoonScalesModel", name := "held", desc := "(JII)I" } : Jvm.MethodName) prog_23_method_48_code (4 : Nat) (Option.some Jvm.ClassFile.FieldType.int)) ∈ lw_all := lw_g (lw_at lw_m6 143 rfl) rfl
theorem q1417 : (Jvm.Cond.methodLink "SpoonScalesModel" (334 : Nat) ({ cls := "SpoonScalesModel", name := "least", desc := "(II)I" } : Jvm.MethodName)) ∈ lw_all := lw_g (lw_at lw_m6 144 rfl) rfl
theorem q1418 : (Jvm.Cond.static ({ cls := "SpoonScalesModel", name := "least", desc := "(II)I" } : Jvm.MethodName)) ∈ lw_all := lw_g (lw_at lw_m6 145 rfl) rfl
theorem q1419 : (Jvm.Cond.code ({ cls := "SpoonScalesModel", name := "least", desc := "(II)I" } : Jvm.MethodName) prog_23_method_49_code (2 : Nat) (Option.some Jvm.ClassFile.FieldType.int)) ∈ lw_all := lw_g (lw_at lw_m6 146 rfl) rfl
theorem q1421 : (Jvm.Cond.instanceMethod ({ cls := "SpoonScalesModel", name := "judge", desc := "(I)I" } : Jvm.MethodName)) ∈ lw_all := lw_g (lw_at lw_m6 148 rfl) rfl
theorem q1422 : (Jvm.Cond.selects "SpoonScalesModel" ({ cls := "SpoonScalesModel", name := "judge", desc := "(I)I" } : Jvm.MethodName) ({ cls := "SpoonScalesModel", name := "judge", desc := "(I)I" } : Jvm.MethodName)) ∈ lw_all := lw_g (lw_at lw_m6 149 rfl) rfl
theorem q1423 : (Jvm.Cond.code ({ cls := "SpoonScalesModel", name := "judge", desc := "(I)I" } : Jvm.MethodName) prog_23_method_58_code (4 : Nat) (Option.some Jvm.ClassFile.FieldType.int)) ∈ lw_all := lw_g (lw_at lw_m6 150 rfl) rfl
theorem q1424 : (Jvm.Cond.methodLink "SpoonScalesModel" (352 : Nat) ({ cls := "SpoonScalesModel", name := "isGuilty", desc := "(I)Z" } : Jvm.MethodName)) ∈ lw_all := lw_g (lw_at lw_m6 151 rfl) rfl
theorem q1425 : (Jvm.Cond.privateMethod ({ cls := "SpoonScalesModel", name := "isGuilty", desc := "(I)Z" } : Jvm.MethodName)) ∈ lw_tbl := lw_at lw_m6 152 rfl
theorem q1426 : (Jvm.Cond.instanceMethod ({ cls := "SpoonScalesModel", name := "isGuilty", desc := "(I)Z" } : Jvm.MethodName)) ∈ lw_all := lw_g (lw_at lw_m6 153 rfl) rfl
theorem q1427 : (Jvm.Cond.code ({ cls := "SpoonScalesModel", name := "isGuilty", desc := "(I)Z" } : Jvm.MethodName) prog_23_method_55_code (4 : Nat) (Option.some Jvm.ClassFile.FieldType.boolean)) ∈ lw_all := lw_g (lw_at lw_m6 154 rfl) rfl
theorem q1428 : (Jvm.Cond.methodLink "SpoonScalesModel" (340 : Nat) ({ cls := "SpoonScalesModel", name := "tilt", desc := "()I" } : Jvm.MethodName)) ∈ lw_all := lw_g (lw_at lw_m6 155 rfl) rfl
theorem q1429 : (Jvm.Cond.privateMethod ({ cls := "SpoonScalesModel", name := "tilt", desc := "()I" } : Jvm.MethodName)) ∈ lw_tbl := lw_at lw_m6 156 rfl
theorem q1430 : (Jvm.Cond.instanceMethod ({ cls := "SpoonScalesModel", name := "tilt", desc := "()I" } : Jvm.MethodName)) ∈ lw_all := lw_g (lw_at lw_m6 157 rfl) rfl
theorem q1431 : (Jvm.Cond.code ({ cls := "SpoonScalesModel", name := "tilt", desc := "()I" } : Jvm.MethodName) prog_23_method_54_code (1 : Nat) (Option.some Jvm.ClassFile.FieldType.int)) ∈ lw_all := lw_g (lw_at lw_m6 158 rfl) rfl
theorem q1433 : (Jvm.Cond.instanceMethod ({ cls := "SpoonScalesModel", name := "flies", desc := "(I)I" } : Jvm.MethodName)) ∈ lw_all := lw_g (lw_at lw_m6 160 rfl) rfl
theorem q1434 : (Jvm.Cond.selects "SpoonScalesModel" ({ cls := "SpoonScalesModel", name := "flies", desc := "(I)I" } : Jvm.MethodName) ({ cls := "SpoonScalesModel", name := "flies", desc := "(I)I" } : Jvm.MethodName)) ∈ lw_all := lw_g (lw_at lw_m6 161 rfl) rfl
theorem q1435 : (Jvm.Cond.code ({ cls := "SpoonScalesModel", name := "flies", desc := "(I)I" } : Jvm.MethodName) prog_23_method_60_code (5 : Nat) (Option.some Jvm.ClassFile.FieldType.int)) ∈ lw_all := lw_g (lw_at lw_m6 162 rfl) rfl
theorem q1436 : (Jvm.Cond.methodLink "SpoonScalesModel" (355 : Nat) ({ cls := "SpoonScalesModel", name := "draw", desc := "(I)I" } : Jvm.MethodName)) ∈ lw_all := lw_g (lw_at lw_m6 163 rfl) rfl
theorem q1437 : (Jvm.Cond.privateMethod ({ cls := "SpoonScalesModel", name := "draw", desc := "(I)I" } : Jvm.MethodName)) ∈ lw_tbl := lw_at lw_m6 164 rfl
theorem q1438 : (Jvm.Cond.instanceMethod ({ cls := "SpoonScalesModel", name := "draw", desc := "(I)I" } : Jvm.MethodName)) ∈ lw_all := lw_g (lw_at lw_m6 165 rfl) rfl
theorem q1439 : (Jvm.Cond.code ({ cls := "SpoonScalesModel", name := "draw", desc := "(I)I" } : Jvm.MethodName) prog_23_method_59_code (3 : Nat) (Option.some Jvm.ClassFile.FieldType.int)) ∈ lw_all := lw_g (lw_at lw_m6 166 rfl) rfl
theorem q1441 : (Jvm.Cond.instanceMethod ({ cls := "SpoonScalesModel", name := "played", desc := "(I)I" } : Jvm.MethodName)) ∈ lw_all := lw_g (lw_at lw_m6 168 rfl) rfl
theorem q1442 : (Jvm.Cond.selects "SpoonScalesModel" ({ cls := "SpoonScalesModel", name := "played", desc := "(I)I" } : Jvm.MethodName) ({ cls := "SpoonScalesModel", name := "played", desc := "(I)I" } : Jvm.MethodName)) ∈ lw_all := lw_g (lw_at lw_m6 169 rfl) rfl
theorem q1443 : (Jvm.Cond.code ({ cls := "SpoonScalesModel", name := "played", desc := "(I)I" } : Jvm.MethodName) prog_23_method_61_code (5 : Nat) (Option.some Jvm.ClassFile.FieldType.int)) ∈ lw_all := lw_g (lw_at lw_m6 170 rfl) rfl
theorem q1444 : (Jvm.Cond.methodLink "SpoonScalesModel" (358 : Nat) ({ cls := "SpoonScalesModel", name := "sit", desc := "(II)Z" } : Jvm.MethodName)) ∈ lw_all := lw_g (lw_at lw_m6 171 rfl) rfl
theorem q1445 : (Jvm.Cond.methodLink "SpoonScalesModel" (361 : Nat) ({ cls := "SpoonScalesModel", name := "spoon", desc := "(II)I" } : Jvm.MethodName)) ∈ lw_all := lw_g (lw_at lw_m6 172 rfl) rfl
theorem q1446 : (Jvm.Cond.methodLink "SpoonScalesModel" (364 : Nat) ({ cls := "SpoonScalesModel", name := "judge", desc := "(I)I" } : Jvm.MethodName)) ∈ lw_all := lw_g (lw_at lw_m6 173 rfl) rfl
theorem q1447 : (Jvm.Cond.methodLink "SpoonScalesModel" (367 : Nat) ({ cls := "SpoonScalesModel", name := "flies", desc := "(I)I" } : Jvm.MethodName)) ∈ lw_all := lw_g (lw_at lw_m6 174 rfl) rfl
theorem q1449 : (Jvm.Cond.instanceMethod ({ cls := "SpoonScalesModel", name := "of", desc := "(II)I" } : Jvm.MethodName)) ∈ lw_all := lw_g (lw_at lw_m6 176 rfl) rfl
theorem q1450 : (Jvm.Cond.selects "SpoonScalesModel" ({ cls := "SpoonScalesModel", name := "of", desc := "(II)I" } : Jvm.MethodName) ({ cls := "SpoonScalesModel", name := "of", desc := "(II)I" } : Jvm.MethodName)) ∈ lw_all := lw_g (lw_at lw_m6 177 rfl) rfl
theorem q1451 : (Jvm.Cond.code ({ cls := "SpoonScalesModel", name := "of", desc := "(II)I" } : Jvm.MethodName) prog_23_method_62_code (3 : Nat) (Option.some Jvm.ClassFile.FieldType.int)) ∈ lw_all := lw_g (lw_at lw_m6 178 rfl) rfl
theorem q1453 : (Jvm.Cond.instanceMethod ({ cls := "SpoonScalesModel", name := "written", desc := "(II)I" } : Jvm.MethodName)) ∈ lw_all := lw_g (lw_at lw_m6 180 rfl) rfl
theorem q1454 : (Jvm.Cond.selects "SpoonScalesModel" ({ cls := "SpoonScalesModel", name := "written", desc := "(II)I" } : Jvm.MethodName) ({ cls := "SpoonScalesModel", name := "written", desc := "(II)I" } : Jvm.MethodName)) ∈ lw_all := lw_g (lw_at lw_m6 181 rfl) rfl
theorem q1455 : (Jvm.Cond.code ({ cls := "SpoonScalesModel", name := "written", desc := "(II)I" } : Jvm.MethodName) prog_23_method_63_code (3 : Nat) (Option.some Jvm.ClassFile.FieldType.int)) ∈ lw_all := lw_g (lw_at lw_m6 182 rfl) rfl
theorem q1457 : (Jvm.Cond.instanceMethod ({ cls := "SpoonScalesModel", name := "dent", desc := "(II)I" } : Jvm.MethodName)) ∈ lw_all := lw_g (lw_at lw_m6 184 rfl) rfl
theorem q1458 : (Jvm.Cond.selects "SpoonScalesModel" ({ cls := "SpoonScalesModel", name := "dent", desc := "(II)I" } : Jvm.MethodName) ({ cls := "SpoonScalesModel", name := "dent", desc := "(II)I" } : Jvm.MethodName)) ∈ lw_all := lw_g (lw_at lw_m6 185 rfl) rfl
theorem q1459 : (Jvm.Cond.code ({ cls := "SpoonScalesModel", name := "dent", desc := "(II)I" } : Jvm.MethodName) prog_23_method_64_code (3 : Nat) (Option.some Jvm.ClassFile.FieldType.int)) ∈ lw_all := lw_g (lw_at lw_m6 186 rfl) rfl
theorem q1461 : (Jvm.Cond.instanceMethod ({ cls := "SpoonScalesModel", name := "called", desc := "(III)I" } : Jvm.MethodName)) ∈ lw_all := lw_g (lw_at lw_m6 188 rfl) rfl
theorem q1462 : (Jvm.Cond.selects "SpoonScalesModel" ({ cls := "SpoonScalesModel", name := "called", desc := "(III)I" } : Jvm.MethodName) ({ cls := "SpoonScalesModel", name := "called", desc := "(III)I" } : Jvm.MethodName)) ∈ lw_all := lw_g (lw_at lw_m6 189 rfl) rfl
theorem q1463 : (Jvm.Cond.code ({ cls := "SpoonScalesModel", name := "called", desc := "(III)I" } : Jvm.MethodName) prog_23_method_68_code (10 : Nat) (Option.some Jvm.ClassFile.FieldType.int)) ∈ lw_all := lw_g (lw_at lw_m6 190 rfl) rfl
theorem q1464 : (Jvm.Cond.methodLink "SpoonScalesModel" (370 : Nat) ({ cls := "SpoonScalesModel", name := "rows", desc := "(I)I" } : Jvm.MethodName)) ∈ lw_all := lw_g (lw_at lw_m6 191 rfl) rfl
theorem q1465 : (Jvm.Cond.static ({ cls := "SpoonScalesModel", name := "rows", desc := "(I)I" } : Jvm.MethodName)) ∈ lw_all := lw_g (lw_at lw_m6 192 rfl) rfl
theorem q1466 : (Jvm.Cond.code ({ cls := "SpoonScalesModel", name := "rows", desc := "(I)I" } : Jvm.MethodName) prog_23_method_65_code (3 : Nat) (Option.some Jvm.ClassFile.FieldType.int)) ∈ lw_all := lw_g (lw_at lw_m6 193 rfl) rfl
theorem q1467 : (Jvm.Cond.methodLink "SpoonScalesModel" (373 : Nat) ({ cls := "SpoonScalesModel", name := "laysOrder", desc := "(II)V" } : Jvm.MethodName)) ∈ lw_all := lw_g (lw_at lw_m6 194 rfl) rfl
theorem q1468 : (Jvm.Cond.privateMethod ({ cls := "SpoonScalesModel", name := "laysOrder", desc := "(II)V" } : Jvm.MethodName)) ∈ lw_tbl := lw_at lw_m6 195 rfl
theorem q1469 : (Jvm.Cond.instanceMethod ({ cls := "SpoonScalesModel", name := "laysOrder", desc := "(II)V" } : Jvm.MethodName)) ∈ lw_all := lw_g (lw_at lw_m6 196 rfl) rfl
theorem q1470 : (Jvm.Cond.code ({ cls := "SpoonScalesModel", name := "laysOrder", desc := "(II)V" } : Jvm.MethodName) prog_23_method_66_code (8 : Nat) (Option.none : Option Jvm.ClassFile.FieldType)) ∈ lw_all := lw_g (lw_at lw_m6 197 rfl) rfl
theorem q1471 : (Jvm.Cond.methodLink "SpoonScalesModel" (376 : Nat) ({ cls := "SpoonScalesModel", name := "eats", desc := "(II)I" } : Jvm.MethodName)) ∈ lw_all := lw_g (lw_at lw_m6 198 rfl) rfl
theorem q1472 : (Jvm.Cond.privateMethod ({ cls := "SpoonScalesModel", name := "eats", desc := "(II)I" } : Jvm.MethodName)) ∈ lw_tbl := lw_at lw_m6 199 rfl
theorem q1473 : (Jvm.Cond.instanceMethod ({ cls := "SpoonScalesModel", name := "eats", desc := "(II)I" } : Jvm.MethodName)) ∈ lw_all := lw_g (lw_at lw_m6 200 rfl) rfl
theorem q1474 : (Jvm.Cond.code ({ cls := "SpoonScalesModel", name := "eats", desc := "(II)I" } : Jvm.MethodName) prog_23_method_53_code (4 : Nat) (Option.some Jvm.ClassFile.FieldType.int)) ∈ lw_all := lw_g (lw_at lw_m6 201 rfl) rfl
theorem q1475 : (Jvm.Cond.methodLink "SpoonScalesModel" (379 : Nat) ({ cls := "SpoonScalesModel", name := "size", desc := "(I)I" } : Jvm.MethodName)) ∈ lw_all := lw_g (lw_at lw_m6 202 rfl) rfl
theorem q1476 : (Jvm.Cond.static ({ cls := "SpoonScalesModel", name := "size", desc := "(I)I" } : Jvm.MethodName)) ∈ lw_all := lw_g (lw_at lw_m6 203 rfl) rfl
theorem q1477 : (Jvm.Cond.code ({ cls := "SpoonScalesModel", name := "size", desc := "(I)I" } : Jvm.MethodName) prog_23_method_67_code (1 : Nat) (Option.some Jvm.ClassFile.FieldType.int)) ∈ lw_all := lw_g (lw_at lw_m6 204 rfl) rfl
theorem q1479 : (Jvm.Cond.instanceMethod ({ cls := "SpoonScalesModel", name := "acquitted", desc := "(II)I" } : Jvm.MethodName)) ∈ lw_all := lw_g (lw_at lw_m6 206 rfl) rfl
theorem q1480 : (Jvm.Cond.selects "SpoonScalesModel" ({ cls := "SpoonScalesModel", name := "acquitted", desc := "(II)I" } : Jvm.MethodName) ({ cls := "SpoonScalesModel", name := "acquitted", desc := "(II)I" } : Jvm.MethodName)) ∈ lw_all := lw_g (lw_at lw_m6 207 rfl) rfl
theorem q1481 : (Jvm.Cond.code ({ cls := "SpoonScalesModel", name := "acquitted", desc := "(II)I" } : Jvm.MethodName) prog_23_method_70_code (4 : Nat) (Option.some Jvm.ClassFile.FieldType.int)) ∈ lw_all := lw_g (lw_at lw_m6 208 rfl) rfl
theorem q1482 : (Jvm.Cond.methodLink "SpoonScalesModel" (385 : Nat) ({ cls := "SpoonScalesModel", name := "acquits", desc := "(II)Z" } : Jvm.MethodName)) ∈ lw_all := lw_g (lw_at lw_m6 209 rfl) rfl
theorem q1483 : (Jvm.Cond.privateMethod ({ cls := "SpoonScalesModel", name := "acquits", desc := "(II)Z" } : Jvm.MethodName)) ∈ lw_tbl := lw_at lw_m6 210 rfl
theorem q1484 : (Jvm.Cond.instanceMethod ({ cls := "SpoonScalesModel", name := "acquits", desc := "(II)Z" } : Jvm.MethodName)) ∈ lw_all := lw_g (lw_at lw_m6 211 rfl) rfl
theorem q1485 : (Jvm.Cond.code ({ cls := "SpoonScalesModel", name := "acquits", desc := "(II)Z" } : Jvm.MethodName) prog_23_method_69_code (10 : Nat) (Option.some Jvm.ClassFile.FieldType.boolean)) ∈ lw_all := lw_g (lw_at lw_m6 212 rfl) rfl
theorem q1487 : (Jvm.Cond.instanceMethod ({ cls := "SpoonScalesModel", name := "sets", desc := "(IIII)I" } : Jvm.MethodName)) ∈ lw_all := lw_g (lw_at lw_m6 214 rfl) rfl
theorem q1488 : (Jvm.Cond.selects "SpoonScalesModel" ({ cls := "SpoonScalesModel", name := "sets", desc := "(IIII)I" } : Jvm.MethodName) ({ cls := "SpoonScalesModel", name := "sets", desc := "(IIII)I" } : Jvm.MethodName)) ∈ lw_all := lw_g (lw_at lw_m6 215 rfl) rfl
theorem q1489 : (Jvm.Cond.code ({ cls := "SpoonScalesModel", name := "sets", desc := "(IIII)I" } : Jvm.MethodName) prog_23_method_71_code (9 : Nat) (Option.some Jvm.ClassFile.FieldType.int)) ∈ lw_all := lw_g (lw_at lw_m6 216 rfl) rfl
theorem q1491 : (Jvm.Cond.instanceMethod ({ cls := "SpoonScalesModel", name := "tested", desc := "(II)I" } : Jvm.MethodName)) ∈ lw_all := lw_g (lw_at lw_m6 218 rfl) rfl
theorem q1492 : (Jvm.Cond.selects "SpoonScalesModel" ({ cls := "SpoonScalesModel", name := "tested", desc := "(II)I" } : Jvm.MethodName) ({ cls := "SpoonScalesModel", name := "tested", desc := "(II)I" } : Jvm.MethodName)) ∈ lw_all := lw_g (lw_at lw_m6 219 rfl) rfl
theorem q1493 : (Jvm.Cond.code ({ cls := "SpoonScalesModel", name := "tested", desc := "(II)I" } : Jvm.MethodName) prog_23_method_72_code (3 : Nat) (Option.some Jvm.ClassFile.FieldType.int)) ∈ lw_all := lw_g (lw_at lw_m6 220 rfl) rfl
theorem q1495 : (Jvm.Cond.instanceMethod ({ cls := "SpoonScalesModel", name := "fits", desc := "()I" } : Jvm.MethodName)) ∈ lw_all := lw_g (lw_at lw_m6 222 rfl) rfl
theorem q1496 : (Jvm.Cond.selects "SpoonScalesModel" ({ cls := "SpoonScalesModel", name := "fits", desc := "()I" } : Jvm.MethodName) ({ cls := "SpoonScalesModel", name := "fits", desc := "()I" } : Jvm.MethodName)) ∈ lw_all := lw_g (lw_at lw_m6 223 rfl) rfl
theorem q1497 : (Jvm.Cond.code ({ cls := "SpoonScalesModel", name := "fits", desc := "()I" } : Jvm.MethodName) prog_23_method_74_code (5 : Nat) (Option.some Jvm.ClassFile.FieldType.int)) ∈ lw_all := lw_g (lw_at lw_m6 224 rfl) rfl
theorem q1498 : (Jvm.Cond.methodLink "SpoonScalesModel" (388 : Nat) ({ cls := "SpoonScalesModel", name := "hangs", desc := "(II)I" } : Jvm.MethodName)) ∈ lw_all := lw_g (lw_at lw_m6 225 rfl) rfl
theorem q1499 : (Jvm.Cond.static ({ cls := "SpoonScalesModel", name := "hangs", desc := "(II)I" } : Jvm.MethodName)) ∈ lw_all := lw_g (lw_at lw_m6 226 rfl) rfl
theorem q1500 : (Jvm.Cond.code ({ cls := "SpoonScalesModel", name := "hangs", desc := "(II)I" } : Jvm.MethodName) prog_23_method_73_code (2 : Nat) (Option.some Jvm.ClassFile.FieldType.int)) ∈ lw_all := lw_g (lw_at lw_m6 227 rfl) rfl
theorem q1502 : (Jvm.Cond.instanceMethod ({ cls := "SpoonScalesModel", name := "next", desc := "()I" } : Jvm.MethodName)) ∈ lw_all := lw_g (lw_at lw_m6 229 rfl) rfl
theorem q1503 : (Jvm.Cond.selects "SpoonScalesModel" ({ cls := "SpoonScalesModel", name := "next", desc := "()I" } : Jvm.MethodName) ({ cls := "SpoonScalesModel", name := "next", desc := "()I" } : Jvm.MethodName)) ∈ lw_all := lw_g (lw_at lw_m6 230 rfl) rfl
theorem q1504 : (Jvm.Cond.code ({ cls := "SpoonScalesModel", name := "next", desc := "()I" } : Jvm.MethodName) prog_23_method_76_code (6 : Nat) (Option.some Jvm.ClassFile.FieldType.int)) ∈ lw_all := lw_g (lw_at lw_m6 231 rfl) rfl
theorem q1505 : (Jvm.Cond.methodLink "SpoonScalesModel" (391 : Nat) ({ cls := "SpoonScalesModel", name := "fits", desc := "()I" } : Jvm.MethodName)) ∈ lw_all := lw_g (lw_at lw_m6 232 rfl) rfl
theorem q1506 : (Jvm.Cond.methodLink "SpoonScalesModel" (394 : Nat) ({ cls := "SpoonScalesModel", name := "mostAlike", desc := "(II)I" } : Jvm.MethodName)) ∈ lw_all := lw_g (lw_at lw_m6 233 rfl) rfl
theorem q1507 : (Jvm.Cond.static ({ cls := "SpoonScalesModel", name := "mostAlike", desc := "(II)I" } : Jvm.MethodName)) ∈ lw_all := lw_g (lw_at lw_m6 234 rfl) rfl
theorem q1508 : (Jvm.Cond.code ({ cls := "SpoonScalesModel", name := "mostAlike", desc := "(II)I" } : Jvm.MethodName) prog_23_method_75_code (6 : Nat) (Option.some Jvm.ClassFile.FieldType.int)) ∈ lw_all := lw_g (lw_at lw_m6 235 rfl) rfl
theorem q1510 : (Jvm.Cond.instanceMethod ({ cls := "SpoonScalesModel", name := "hired", desc := "(I)I" } : Jvm.MethodName)) ∈ lw_all := lw_g (lw_at lw_m6 237 rfl) rfl
theorem q1511 : (Jvm.Cond.selects "SpoonScalesModel" ({ cls := "SpoonScalesModel", name := "hired", desc := "(I)I" } : Jvm.MethodName) ({ cls := "SpoonScalesModel", name := "hired", desc := "(I)I" } : Jvm.MethodName)) ∈ lw_all := lw_g (lw_at lw_m6 238 rfl) rfl
theorem q1512 : (Jvm.Cond.code ({ cls := "SpoonScalesModel", name := "hired", desc := "(I)I" } : Jvm.MethodName) prog_23_method_77_code (10 : Nat) (Option.some Jvm.ClassFile.FieldType.int)) ∈ lw_all := lw_g (lw_at lw_m6 239 rfl) rfl
theorem q1514 : (Jvm.Cond.instanceMethod ({ cls := "SpoonScalesModel", name := "contrary", desc := "()I" } : Jvm.MethodName)) ∈ lw_all := lw_g (lw_at lw_m7 1 rfl) rfl
theorem q1515 : (Jvm.Cond.selects "SpoonScalesModel" ({ cls := "SpoonScalesModel", name := "contrary", desc := "()I" } : Jvm.MethodName) ({ cls := "SpoonScalesModel", name := "contrary", desc := "()I" } : Jvm.MethodName)) ∈ lw_all := lw_g (lw_at lw_m7 2 rfl) rfl
theorem q1516 : (Jvm.Cond.code ({ cls := "SpoonScalesModel", name := "contrary", desc := "()I" } : Jvm.MethodName) prog_23_method_78_code (5 : Nat) (Option.some Jvm.ClassFile.FieldType.int)) ∈ lw_all := lw_g (lw_at lw_m7 3 rfl) rfl
theorem q1518 : (Jvm.Cond.instanceMethod ({ cls := "SpoonScalesModel", name := "odds", desc := "(IIZ)J" } : Jvm.MethodName)) ∈ lw_all := lw_g (lw_at lw_m7 5 rfl) rfl
theorem q1519 : (Jvm.Cond.selects "SpoonScalesModel" ({ cls := "SpoonScalesModel", name := "odds", desc := "(IIZ)J" } : Jvm.MethodName) ({ cls := "SpoonScalesModel", name := "odds", desc := "(IIZ)J" } : Jvm.MethodName)) ∈ lw_all := lw_g (lw_at lw_m7 6 rfl) rfl
theorem q1520 : (Jvm.Cond.code ({ cls := "SpoonScalesModel", name := "odds", desc := "(IIZ)J" } : Jvm.MethodName) prog_23_method_80_code (9 : Nat) (Option.some Jvm.ClassFile.FieldType.long)) ∈ lw_all := lw_g (lw_at lw_m7 7 rfl) rfl
theorem q1521 : (Jvm.Cond.constantLong "SpoonScalesModel" (397 : Nat) (-1 : Int64)) ∈ lw_all := lw_g (lw_at lw_m7 8 rfl) rfl
theorem q1522 : (Jvm.Cond.methodLink "SpoonScalesModel" (399 : Nat) ({ cls := "SpoonScalesModel", name := "common", desc := "(JJ)J" } : Jvm.MethodName)) ∈ lw_all := lw_g (lw_at lw_m7 9 rfl) rfl
theorem q1523 : (Jvm.Cond.static ({ cls := "SpoonScalesModel", name := "common", desc := "(JJ)J" } : Jvm.MethodName)) ∈ lw_all := lw_g (lw_at lw_m7 10 rfl) rfl
theorem q1524 : (Jvm.Cond.code ({ cls := "SpoonScalesModel", name := "common", desc := "(JJ)J" } : Jvm.MethodName) prog_23_method_79_code (10 : Nat) (Option.some Jvm.ClassFile.FieldType.long)) ∈ lw_all := lw_g (lw_at lw_m7 11 rfl) rfl
theorem q1526 : (Jvm.Cond.instanceMethod ({ cls := "SpoonScalesModel", name := "tell", desc := "(II)I" } : Jvm.MethodName)) ∈ lw_all := lw_g (lw_at lw_m7 13 rfl) rfl
theorem q1527 : (Jvm.Cond.selects "SpoonScalesModel" ({ cls := "SpoonScalesModel", name := "tell", desc := "(II)I" } : Jvm.MethodName) ({ cls := "SpoonScalesModel", name := "tell", desc := "(II)I" } : Jvm.MethodName)) ∈ lw_all := lw_g (lw_at lw_m7 14 rfl) rfl
theorem q1528 : (Jvm.Cond.code ({ cls := "SpoonScalesModel", name := "tell", desc := "(II)I" } : Jvm.MethodName) prog_23_method_81_code (3 : Nat) (Option.some Jvm.ClassFile.FieldType.int)) ∈ lw_all := lw_g (lw_at lw_m7 15 rfl) rfl
theorem q1530 : (Jvm.Cond.instanceMethod ({ cls := "SpoonScalesModel", name := "liars", desc := "()I" } : Jvm.MethodName)) ∈ lw_all := lw_g (lw_at lw_m7 17 rfl) rfl
theorem q1531 : (Jvm.Cond.selects "SpoonScalesModel" ({ cls := "SpoonScalesModel", name := "liars", desc := "()I" } : Jvm.MethodName) ({ cls := "SpoonScalesModel", name := "liars", desc := "()I" } : Jvm.MethodName)) ∈ lw_all := lw_g (lw_at lw_m7 18 rfl) rfl
theorem q1532 : (Jvm.Cond.code ({ cls := "SpoonScalesModel", name := "liars", desc := "()I" } : Jvm.MethodName) prog_23_method_83_code (3 : Nat) (Option.some Jvm.ClassFile.FieldType.int)) ∈ lw_all := lw_g (lw_at lw_m7 19 rfl) rfl
theorem q1533 : (Jvm.Cond.methodLink "SpoonScalesModel" (403 : Nat) ({ cls := "SpoonScalesModel", name := "toldMore", desc := "(I)I" } : Jvm.MethodName)) ∈ lw_all := lw_g (lw_at lw_m7 20 rfl) rfl
theorem q1534 : (Jvm.Cond.privateMethod ({ cls := "SpoonScalesModel", name := "toldMore", desc := "(I)I" } : Jvm.MethodName)) ∈ lw_tbl := lw_at lw_m7 21 rfl
theorem q1535 : (Jvm.Cond.instanceMethod ({ cls := "SpoonScalesModel", name := "toldMore", desc := "(I)I" } : Jvm.MethodName)) ∈ lw_all := lw_g (lw_at lw_m7 22 rfl) rfl
theorem q1536 : (Jvm.Cond.code ({ cls := "SpoonScalesModel", name := "toldMore", desc := "(I)I" } : Jvm.MethodName) prog_23_method_82_code (4 : Nat) (Option.some Jvm.ClassFile.FieldType.int)) ∈ lw_all := lw_g (lw_at lw_m7 23 rfl) rfl
theorem q1538 : (Jvm.Cond.instanceMethod ({ cls := "SpoonScalesModel", name := "inWhoseName", desc := "(I)I" } : Jvm.MethodName)) ∈ lw_all := lw_g (lw_at lw_m7 25 rfl) rfl
theorem q1539 : (Jvm.Cond.selects "SpoonScalesModel" ({ cls := "SpoonScalesModel", name := "inWhoseName", desc := "(I)I" } : Jvm.MethodName) ({ cls := "SpoonScalesModel", name := "inWhoseName", desc := "(I)I" } : Jvm.MethodName)) ∈ lw_all := lw_g (lw_at lw_m7 26 rfl) rfl
theorem q1540 : (Jvm.Cond.code ({ cls := "SpoonScalesModel", name := "inWhoseName", desc := "(I)I" } : Jvm.MethodName) prog_23_method_84_code (3 : Nat) (Option.some Jvm.ClassFile.FieldType.int)) ∈ lw_all := lw_g (lw_at lw_m7 27 rfl) rfl
theorem q1542 : (Jvm.Cond.instanceMethod ({ cls := "SpoonScalesModel", name := "image", desc := "()I" } : Jvm.MethodName)) ∈ lw_all := lw_g (lw_at lw_m7 29 rfl) rfl
theorem q1543 : (Jvm.Cond.selects "SpoonScalesModel" ({ cls := "SpoonScalesModel", name := "image", desc := "()I" } : Jvm.MethodName) ({ cls := "SpoonScalesModel", name := "image", desc := "()I" } : Jvm.MethodName)) ∈ lw_all := lw_g (lw_at lw_m7 30 rfl) rfl
theorem q1544 : (Jvm.Cond.code ({ cls := "SpoonScalesModel", name := "image", desc := "()I" } : Jvm.MethodName) prog_23_method_85_code (1 : Nat) (Option.some Jvm.ClassFile.FieldType.int)) ∈ lw_all := lw_g (lw_at lw_m7 31 rfl) rfl
theorem q1546 : (Jvm.Cond.instanceMethod ({ cls := "SpoonScalesModel", name := "back", desc := "()I" } : Jvm.MethodName)) ∈ lw_all := lw_g (lw_at lw_m7 33 rfl) rfl
theorem q1547 : (Jvm.Cond.selects "SpoonScalesModel" ({ cls := "SpoonScalesModel", name := "back", desc := "()I" } : Jvm.MethodName) ({ cls := "SpoonScalesModel", name := "back", desc := "()I" } : Jvm.MethodName)) ∈ lw_all := lw_g (lw_at lw_m7 34 rfl) rfl
theorem q1548 : (Jvm.Cond.code ({ cls := "SpoonScalesModel", name := "back", desc := "()I" } : Jvm.MethodName) prog_23_method_86_code (1 : Nat) (Option.some Jvm.ClassFile.FieldType.int)) ∈ lw_all := lw_g (lw_at lw_m7 35 rfl) rfl
theorem q1550 : (Jvm.Cond.instanceMethod ({ cls := "SpoonScalesModel", name := "about", desc := "(I)I" } : Jvm.MethodName)) ∈ lw_all := lw_g (lw_at lw_m7 37 rfl) rfl
theorem q1551 : (Jvm.Cond.selects "SpoonScalesModel" ({ cls := "SpoonScalesModel", name := "about", desc := "(I)I" } : Jvm.MethodName) ({ cls := "SpoonScalesModel", name := "about", desc := "(I)I" } : Jvm.MethodName)) ∈ lw_all := lw_g (lw_at lw_m7 38 rfl) rfl
theorem q1552 : (Jvm.Cond.code ({ cls := "SpoonScalesModel", name := "about", desc := "(I)I" } : Jvm.MethodName) prog_23_method_87_code (2 : Nat) (Option.some Jvm.ClassFile.FieldType.int)) ∈ lw_all := lw_g (lw_at lw_m7 39 rfl) rfl
theorem in_X5 : ∀ w ∈ wsX50, w ∈ lw_all := lw_in wsX50 [1097, 1099, 1101, 1103, 1105, 1107, 1109, 1111, 1113, 1115, 1117, 1119, 1121, 1123, 1125, 1127, 1129, 1131, 1133, 1135, 1137, 1139, 1141, 1143, 1145, 1147, 1149, 1151, 1153, 1155, 1157, 1159, 1161, 1163, 1165, 1167, 1169, 1171, 1173, 1175, 1177, 1179, 1181, 1183, 1185, 1187, 1189, 1191] (by decide +kernel) (by decide +kernel)
