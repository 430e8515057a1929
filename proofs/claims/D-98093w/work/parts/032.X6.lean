/-! SpoonScales$Reader -/
set_option maxRecDepth 100000
def RX6 : String := "SpoonScales$Reader"
def TX6 : u_T := fun k => match k with
  | 0 => ("SpoonScales$Reader", "text", "[B", true)
  | 1 => ("SpoonScales$Reader", "end", "I", true)
  | 2 => ("SpoonScales$Reader", "at", "I", false)
  | 3 => ("SpoonScales$Reader", "place", "I", false)
  | 4 => ("SpoonScales$Reader", "kind", "I", false)
  | 5 => ("SpoonScales$Reader", "value", "I", false)
  | 6 => ("SpoonScales$Reader", "named", "I", false)
  | 7 => ("SpoonScales$Reader", "open", "I", false)
  | 8 => ("SpoonScales$Reader", "clauses", "I", false)
  | _ => ("SpoonScales$Reader", "head", "I", false)
def tyX6 : Nat → FieldType := fun k => match k with
  | 0 => .array .byte
  | 1 => .int
  | 2 => .int
  | 3 => .int
  | 4 => .int
  | 5 => .int
  | 6 => .int
  | 7 => .int
  | 8 => .int
  | _ => .int
abbrev wsX60 : List Cond := u_ws RX6 TX6 10
theorem nmX6 : ∀ a, a < 10 → ∀ b, b < 10 → a ≠ b → (TX6 a).2.1 ≠ (TX6 b).2.1 := by decide +kernel
theorem tyX6_ok : ∀ k, k < 10 → parseFieldDescriptor (TX6 k).2.2.1 = some (tyX6 k) := by decide +kernel
abbrev cX6_init : ByteArray := prog_14_method_1_code
def yX6_init : MethodName := ⟨RX6, "<init>", "([BI)V"⟩
def dkwX6_init_0 : List UInt8 := [42, 183, 0, 3, 42, 43, 181, 0, 9, 42, 28, 181, 0, 15, 177]
abbrev dktX6_init_0 : List UInt8 := dkwX6_init_0 ++ []
theorem dksX6_init_0 : cX6_init.data.toList.drop 0 = dktX6_init_0 := by decide +kernel
theorem dX6_init_0 : decode cX6_init 0 = .ok (.aload_n 0, 1) := dk_42 (dk_at dksX6_init_0 0 rfl rfl)
theorem dX6_init_1 : decode cX6_init 1 = .ok (.invokespecial 3, 3) := dk_183 0 3 (dk_at dksX6_init_0 1 rfl rfl)
theorem dX6_init_4 : decode cX6_init 4 = .ok (.aload_n 0, 1) := dk_42 (dk_at dksX6_init_0 4 rfl rfl)
theorem dX6_init_5 : decode cX6_init 5 = .ok (.aload_n 1, 1) := dk_43 (dk_at dksX6_init_0 5 rfl rfl)
theorem dX6_init_6 : decode cX6_init 6 = .ok (.putfield 9, 3) := dk_181 0 9 (dk_at dksX6_init_0 6 rfl rfl)
theorem dX6_init_9 : decode cX6_init 9 = .ok (.aload_n 0, 1) := dk_42 (dk_at dksX6_init_0 9 rfl rfl)
theorem dX6_init_10 : decode cX6_init 10 = .ok (.iload_n 2, 1) := dk_28 (dk_at dksX6_init_0 10 rfl rfl)
theorem dX6_init_11 : decode cX6_init 11 = .ok (.putfield 15, 3) := dk_181 0 15 (dk_at dksX6_init_0 11 rfl rfl)
theorem dX6_init_14 : decode cX6_init 14 = .ok (.return_, 1) := dk_177 (dk_at dksX6_init_0 14 rfl rfl)
abbrev cX6_read : ByteArray := prog_14_method_13_code
def yX6_read : MethodName := ⟨RX6, "read", "()LSpoonScales$Law;"⟩
def dkwX6_read_9 : List UInt8 := [180, 0, 112, 181, 0, 135, 43, 176]
abbrev dktX6_read_9 : List UInt8 := dkwX6_read_9 ++ []
def dkwX6_read_8 : List UInt8 := [42, 180, 0, 112, 4, 100, 42, 182, 0, 127, 83, 42, 16, 59, 182, 0, 131, 167, 255, 65, 43, 42]
abbrev dktX6_read_8 : List UInt8 := dkwX6_read_8 ++ dktX6_read_9
def dkwX6_read_7 : List UInt8 := [180, 0, 101, 17, 1, 56, 160, 0, 14, 43, 42, 182, 0, 119, 181, 0, 108, 167, 0, 18, 43, 180, 0, 123]
abbrev dktX6_read_7 : List UInt8 := dkwX6_read_7 ++ dktX6_read_8
def dkwX6_read_6 : List UInt8 := [162, 0, 23, 43, 180, 0, 104, 42, 180, 0, 101, 17, 1, 54, 100, 42, 182, 0, 115, 83, 167, 0, 39, 42]
abbrev dktX6_read_6 : List UInt8 := dkwX6_read_6 ++ dktX6_read_7
def dkwX6_read_5 : List UInt8 := [191, 42, 89, 180, 0, 112, 4, 96, 181, 0, 112, 42, 182, 0, 92, 42, 180, 0, 101, 17, 1, 56]
abbrev dktX6_read_5 : List UInt8 := dkwX6_read_5 ++ dktX6_read_6
def dkwX6_read_4 : List UInt8 := [198, 0, 9, 42, 7, 182, 0, 88, 191, 42, 180, 0, 112, 16, 24, 160, 0, 10, 42, 16, 6, 182, 0, 88]
abbrev dktX6_read_4 : List UInt8 := dkwX6_read_4 ++ dktX6_read_5
def dkwX6_read_3 : List UInt8 := [17, 1, 54, 100, 50, 199, 0, 20, 42, 180, 0, 101, 17, 1, 56, 160, 0, 16, 43, 180, 0, 108]
abbrev dktX6_read_3 : List UInt8 := dkwX6_read_3 ++ dktX6_read_4
def dkwX6_read_2 : List UInt8 := [180, 0, 60, 181, 0, 101, 42, 180, 0, 101, 17, 1, 56, 162, 0, 19, 43, 180, 0, 104, 42, 180, 0, 101]
abbrev dktX6_read_2 : List UInt8 := dkwX6_read_2 ++ dktX6_read_3
def dkwX6_read_1 : List UInt8 := [180, 0, 60, 17, 1, 54, 17, 1, 60, 184, 0, 26, 154, 0, 9, 42, 4, 182, 0, 88, 191, 42, 42]
abbrev dktX6_read_1 : List UInt8 := dkwX6_read_1 ++ dktX6_read_2
def dkwX6_read_0 : List UInt8 := [187, 0, 98, 89, 183, 0, 100, 76, 42, 182, 0, 92, 42, 180, 0, 60, 17, 1, 44, 159, 0, 187, 42]
abbrev dktX6_read_0 : List UInt8 := dkwX6_read_0 ++ dktX6_read_1
theorem dksX6_read_0 : cX6_read.data.toList.drop 0 = dktX6_read_0 := by decide +kernel
theorem dksX6_read_1 : cX6_read.data.toList.drop 23 = dktX6_read_1 := dk_seg dksX6_read_0 23 rfl rfl
theorem dksX6_read_2 : cX6_read.data.toList.drop 46 = dktX6_read_2 := dk_seg dksX6_read_1 23 rfl rfl
theorem dksX6_read_3 : cX6_read.data.toList.drop 70 = dktX6_read_3 := dk_seg dksX6_read_2 24 rfl rfl
theorem dksX6_read_4 : cX6_read.data.toList.drop 92 = dktX6_read_4 := dk_seg dksX6_read_3 22 rfl rfl
theorem dksX6_read_5 : cX6_read.data.toList.drop 116 = dktX6_read_5 := dk_seg dksX6_read_4 24 rfl rfl
theorem dksX6_read_6 : cX6_read.data.toList.drop 138 = dktX6_read_6 := dk_seg dksX6_read_5 22 rfl rfl
theorem dksX6_read_7 : cX6_read.data.toList.drop 162 = dktX6_read_7 := dk_seg dksX6_read_6 24 rfl rfl
theorem dksX6_read_8 : cX6_read.data.toList.drop 186 = dktX6_read_8 := dk_seg dksX6_read_7 24 rfl rfl
theorem dksX6_read_9 : cX6_read.data.toList.drop 208 = dktX6_read_9 := dk_seg dksX6_read_8 22 rfl rfl
theorem dX6_read_0 : decode cX6_read 0 = .ok (.new 98, 3) := dk_187 0 98 (dk_at dksX6_read_0 0 rfl rfl)
theorem dX6_read_3 : decode cX6_read 3 = .ok (.dup, 1) := dk_89 (dk_at dksX6_read_0 3 rfl rfl)
theorem dX6_read_4 : decode cX6_read 4 = .ok (.invokespecial 100, 3) := dk_183 0 100 (dk_at dksX6_read_0 4 rfl rfl)
theorem dX6_read_7 : decode cX6_read 7 = .ok (.astore_n 1, 1) := dk_76 (dk_at dksX6_read_0 7 rfl rfl)
theorem dX6_read_8 : decode cX6_read 8 = .ok (.aload_n 0, 1) := dk_42 (dk_at dksX6_read_0 8 rfl rfl)
theorem dX6_read_9 : decode cX6_read 9 = .ok (.invokevirtual 92, 3) := dk_182 0 92 (dk_at dksX6_read_0 9 rfl rfl)
theorem dX6_read_12 : decode cX6_read 12 = .ok (.aload_n 0, 1) := dk_42 (dk_at dksX6_read_0 12 rfl rfl)
theorem dX6_read_13 : decode cX6_read 13 = .ok (.getfield 60, 3) := dk_180 0 60 (dk_at dksX6_read_0 13 rfl rfl)
theorem dX6_read_16 : decode cX6_read 16 = .ok (.sipush 300, 3) := dk_17 1 44 (dk_at dksX6_read_0 16 rfl rfl)
theorem dX6_read_19 : decode cX6_read 19 = .ok (.if_icmp .eq 187, 3) := dk_159 0 187 (dk_at dksX6_read_0 19 rfl rfl)
theorem dX6_read_22 : decode cX6_read 22 = .ok (.aload_n 0, 1) := dk_42 (dk_at dksX6_read_0 22 rfl rfl)
theorem dX6_read_23 : decode cX6_read 23 = .ok (.getfield 60, 3) := dk_180 0 60 (dk_at dksX6_read_1 0 rfl rfl)
theorem dX6_read_26 : decode cX6_read 26 = .ok (.sipush 310, 3) := dk_17 1 54 (dk_at dksX6_read_1 3 rfl rfl)
theorem dX6_read_29 : decode cX6_read 29 = .ok (.sipush 316, 3) := dk_17 1 60 (dk_at dksX6_read_1 6 rfl rfl)
theorem dX6_read_32 : decode cX6_read 32 = .ok (.invokestatic 26, 3) := dk_184 0 26 (dk_at dksX6_read_1 9 rfl rfl)
theorem dX6_read_35 : decode cX6_read 35 = .ok (.ifCond .ne 9, 3) := dk_154 0 9 (dk_at dksX6_read_1 12 rfl rfl)
theorem dX6_read_38 : decode cX6_read 38 = .ok (.aload_n 0, 1) := dk_42 (dk_at dksX6_read_1 15 rfl rfl)
theorem dX6_read_39 : decode cX6_read 39 = .ok (.iconst 1, 1) := dk_4 (dk_at dksX6_read_1 16 rfl rfl)
theorem dX6_read_40 : decode cX6_read 40 = .ok (.invokevirtual 88, 3) := dk_182 0 88 (dk_at dksX6_read_1 17 rfl rfl)
theorem dX6_read_43 : decode cX6_read 43 = .ok (.athrow, 1) := dk_191 (dk_at dksX6_read_1 20 rfl rfl)
theorem dX6_read_44 : decode cX6_read 44 = .ok (.aload_n 0, 1) := dk_42 (dk_at dksX6_read_1 21 rfl rfl)
theorem dX6_read_45 : decode cX6_read 45 = .ok (.aload_n 0, 1) := dk_42 (dk_at dksX6_read_1 22 rfl rfl)
theorem dX6_read_46 : decode cX6_read 46 = .ok (.getfield 60, 3) := dk_180 0 60 (dk_at dksX6_read_2 0 rfl rfl)
theorem dX6_read_49 : decode cX6_read 49 = .ok (.putfield 101, 3) := dk_181 0 101 (dk_at dksX6_read_2 3 rfl rfl)
theorem dX6_read_52 : decode cX6_read 52 = .ok (.aload_n 0, 1) := dk_42 (dk_at dksX6_read_2 6 rfl rfl)
theorem dX6_read_53 : decode cX6_read 53 = .ok (.getfield 101, 3) := dk_180 0 101 (dk_at dksX6_read_2 7 rfl rfl)
theorem dX6_read_56 : decode cX6_read 56 = .ok (.sipush 312, 3) := dk_17 1 56 (dk_at dksX6_read_2 10 rfl rfl)
theorem dX6_read_59 : decode cX6_read 59 = .ok (.if_icmp .ge 19, 3) := dk_162 0 19 (dk_at dksX6_read_2 13 rfl rfl)
theorem dX6_read_62 : decode cX6_read 62 = .ok (.aload_n 1, 1) := dk_43 (dk_at dksX6_read_2 16 rfl rfl)
theorem dX6_read_63 : decode cX6_read 63 = .ok (.getfield 104, 3) := dk_180 0 104 (dk_at dksX6_read_2 17 rfl rfl)
theorem dX6_read_66 : decode cX6_read 66 = .ok (.aload_n 0, 1) := dk_42 (dk_at dksX6_read_2 20 rfl rfl)
theorem dX6_read_67 : decode cX6_read 67 = .ok (.getfield 101, 3) := dk_180 0 101 (dk_at dksX6_read_2 21 rfl rfl)
theorem dX6_read_70 : decode cX6_read 70 = .ok (.sipush 310, 3) := dk_17 1 54 (dk_at dksX6_read_3 0 rfl rfl)
theorem dX6_read_73 : decode cX6_read 73 = .ok (.isub, 1) := dk_100 (dk_at dksX6_read_3 3 rfl rfl)
theorem dX6_read_74 : decode cX6_read 74 = .ok (.aaload, 1) := dk_50 (dk_at dksX6_read_3 4 rfl rfl)
theorem dX6_read_75 : decode cX6_read 75 = .ok (.ifnonnull 20, 3) := dk_199 0 20 (dk_at dksX6_read_3 5 rfl rfl)
theorem dX6_read_78 : decode cX6_read 78 = .ok (.aload_n 0, 1) := dk_42 (dk_at dksX6_read_3 8 rfl rfl)
theorem dX6_read_79 : decode cX6_read 79 = .ok (.getfield 101, 3) := dk_180 0 101 (dk_at dksX6_read_3 9 rfl rfl)
theorem dX6_read_82 : decode cX6_read 82 = .ok (.sipush 312, 3) := dk_17 1 56 (dk_at dksX6_read_3 12 rfl rfl)
theorem dX6_read_85 : decode cX6_read 85 = .ok (.if_icmp .ne 16, 3) := dk_160 0 16 (dk_at dksX6_read_3 15 rfl rfl)
theorem dX6_read_88 : decode cX6_read 88 = .ok (.aload_n 1, 1) := dk_43 (dk_at dksX6_read_3 18 rfl rfl)
theorem dX6_read_89 : decode cX6_read 89 = .ok (.getfield 108, 3) := dk_180 0 108 (dk_at dksX6_read_3 19 rfl rfl)
theorem dX6_read_92 : decode cX6_read 92 = .ok (.ifnull 9, 3) := dk_198 0 9 (dk_at dksX6_read_4 0 rfl rfl)
theorem dX6_read_95 : decode cX6_read 95 = .ok (.aload_n 0, 1) := dk_42 (dk_at dksX6_read_4 3 rfl rfl)
theorem dX6_read_96 : decode cX6_read 96 = .ok (.iconst 4, 1) := dk_7 (dk_at dksX6_read_4 4 rfl rfl)
theorem dX6_read_97 : decode cX6_read 97 = .ok (.invokevirtual 88, 3) := dk_182 0 88 (dk_at dksX6_read_4 5 rfl rfl)
theorem dX6_read_100 : decode cX6_read 100 = .ok (.athrow, 1) := dk_191 (dk_at dksX6_read_4 8 rfl rfl)
theorem dX6_read_101 : decode cX6_read 101 = .ok (.aload_n 0, 1) := dk_42 (dk_at dksX6_read_4 9 rfl rfl)
theorem dX6_read_102 : decode cX6_read 102 = .ok (.getfield 112, 3) := dk_180 0 112 (dk_at dksX6_read_4 10 rfl rfl)
theorem dX6_read_105 : decode cX6_read 105 = .ok (.bipush 24, 2) := dk_16 24 (dk_at dksX6_read_4 13 rfl rfl)
theorem dX6_read_107 : decode cX6_read 107 = .ok (.if_icmp .ne 10, 3) := dk_160 0 10 (dk_at dksX6_read_4 15 rfl rfl)
theorem dX6_read_110 : decode cX6_read 110 = .ok (.aload_n 0, 1) := dk_42 (dk_at dksX6_read_4 18 rfl rfl)
theorem dX6_read_111 : decode cX6_read 111 = .ok (.bipush 6, 2) := dk_16 6 (dk_at dksX6_read_4 19 rfl rfl)
theorem dX6_read_113 : decode cX6_read 113 = .ok (.invokevirtual 88, 3) := dk_182 0 88 (dk_at dksX6_read_4 21 rfl rfl)
theorem dX6_read_116 : decode cX6_read 116 = .ok (.athrow, 1) := dk_191 (dk_at dksX6_read_5 0 rfl rfl)
theorem dX6_read_117 : decode cX6_read 117 = .ok (.aload_n 0, 1) := dk_42 (dk_at dksX6_read_5 1 rfl rfl)
theorem dX6_read_118 : decode cX6_read 118 = .ok (.dup, 1) := dk_89 (dk_at dksX6_read_5 2 rfl rfl)
theorem dX6_read_119 : decode cX6_read 119 = .ok (.getfield 112, 3) := dk_180 0 112 (dk_at dksX6_read_5 3 rfl rfl)
theorem dX6_read_122 : decode cX6_read 122 = .ok (.iconst 1, 1) := dk_4 (dk_at dksX6_read_5 6 rfl rfl)
theorem dX6_read_123 : decode cX6_read 123 = .ok (.iadd, 1) := dk_96 (dk_at dksX6_read_5 7 rfl rfl)
theorem dX6_read_124 : decode cX6_read 124 = .ok (.putfield 112, 3) := dk_181 0 112 (dk_at dksX6_read_5 8 rfl rfl)
theorem dX6_read_127 : decode cX6_read 127 = .ok (.aload_n 0, 1) := dk_42 (dk_at dksX6_read_5 11 rfl rfl)
theorem dX6_read_128 : decode cX6_read 128 = .ok (.invokevirtual 92, 3) := dk_182 0 92 (dk_at dksX6_read_5 12 rfl rfl)
theorem dX6_read_131 : decode cX6_read 131 = .ok (.aload_n 0, 1) := dk_42 (dk_at dksX6_read_5 15 rfl rfl)
theorem dX6_read_132 : decode cX6_read 132 = .ok (.getfield 101, 3) := dk_180 0 101 (dk_at dksX6_read_5 16 rfl rfl)
theorem dX6_read_135 : decode cX6_read 135 = .ok (.sipush 312, 3) := dk_17 1 56 (dk_at dksX6_read_5 19 rfl rfl)
theorem dX6_read_138 : decode cX6_read 138 = .ok (.if_icmp .ge 23, 3) := dk_162 0 23 (dk_at dksX6_read_6 0 rfl rfl)
theorem dX6_read_141 : decode cX6_read 141 = .ok (.aload_n 1, 1) := dk_43 (dk_at dksX6_read_6 3 rfl rfl)
theorem dX6_read_142 : decode cX6_read 142 = .ok (.getfield 104, 3) := dk_180 0 104 (dk_at dksX6_read_6 4 rfl rfl)
theorem dX6_read_145 : decode cX6_read 145 = .ok (.aload_n 0, 1) := dk_42 (dk_at dksX6_read_6 7 rfl rfl)
theorem dX6_read_146 : decode cX6_read 146 = .ok (.getfield 101, 3) := dk_180 0 101 (dk_at dksX6_read_6 8 rfl rfl)
theorem dX6_read_149 : decode cX6_read 149 = .ok (.sipush 310, 3) := dk_17 1 54 (dk_at dksX6_read_6 11 rfl rfl)
theorem dX6_read_152 : decode cX6_read 152 = .ok (.isub, 1) := dk_100 (dk_at dksX6_read_6 14 rfl rfl)
theorem dX6_read_153 : decode cX6_read 153 = .ok (.aload_n 0, 1) := dk_42 (dk_at dksX6_read_6 15 rfl rfl)
theorem dX6_read_154 : decode cX6_read 154 = .ok (.invokevirtual 115, 3) := dk_182 0 115 (dk_at dksX6_read_6 16 rfl rfl)
theorem dX6_read_157 : decode cX6_read 157 = .ok (.aastore, 1) := dk_83 (dk_at dksX6_read_6 19 rfl rfl)
theorem dX6_read_158 : decode cX6_read 158 = .ok (.goto 39, 3) := dk_167 0 39 (dk_at dksX6_read_6 20 rfl rfl)
theorem dX6_read_161 : decode cX6_read 161 = .ok (.aload_n 0, 1) := dk_42 (dk_at dksX6_read_6 23 rfl rfl)
theorem dX6_read_162 : decode cX6_read 162 = .ok (.getfield 101, 3) := dk_180 0 101 (dk_at dksX6_read_7 0 rfl rfl)
theorem dX6_read_165 : decode cX6_read 165 = .ok (.sipush 312, 3) := dk_17 1 56 (dk_at dksX6_read_7 3 rfl rfl)
theorem dX6_read_168 : decode cX6_read 168 = .ok (.if_icmp .ne 14, 3) := dk_160 0 14 (dk_at dksX6_read_7 6 rfl rfl)
theorem dX6_read_171 : decode cX6_read 171 = .ok (.aload_n 1, 1) := dk_43 (dk_at dksX6_read_7 9 rfl rfl)
theorem dX6_read_172 : decode cX6_read 172 = .ok (.aload_n 0, 1) := dk_42 (dk_at dksX6_read_7 10 rfl rfl)
theorem dX6_read_173 : decode cX6_read 173 = .ok (.invokevirtual 119, 3) := dk_182 0 119 (dk_at dksX6_read_7 11 rfl rfl)
theorem dX6_read_176 : decode cX6_read 176 = .ok (.putfield 108, 3) := dk_181 0 108 (dk_at dksX6_read_7 14 rfl rfl)
theorem dX6_read_179 : decode cX6_read 179 = .ok (.goto 18, 3) := dk_167 0 18 (dk_at dksX6_read_7 17 rfl rfl)
theorem dX6_read_182 : decode cX6_read 182 = .ok (.aload_n 1, 1) := dk_43 (dk_at dksX6_read_7 20 rfl rfl)
theorem dX6_read_183 : decode cX6_read 183 = .ok (.getfield 123, 3) := dk_180 0 123 (dk_at dksX6_read_7 21 rfl rfl)
theorem dX6_read_186 : decode cX6_read 186 = .ok (.aload_n 0, 1) := dk_42 (dk_at dksX6_read_8 0 rfl rfl)
theorem dX6_read_187 : decode cX6_read 187 = .ok (.getfield 112, 3) := dk_180 0 112 (dk_at dksX6_read_8 1 rfl rfl)
theorem dX6_read_190 : decode cX6_read 190 = .ok (.iconst 1, 1) := dk_4 (dk_at dksX6_read_8 4 rfl rfl)
theorem dX6_read_191 : decode cX6_read 191 = .ok (.isub, 1) := dk_100 (dk_at dksX6_read_8 5 rfl rfl)
theorem dX6_read_192 : decode cX6_read 192 = .ok (.aload_n 0, 1) := dk_42 (dk_at dksX6_read_8 6 rfl rfl)
theorem dX6_read_193 : decode cX6_read 193 = .ok (.invokevirtual 127, 3) := dk_182 0 127 (dk_at dksX6_read_8 7 rfl rfl)
theorem dX6_read_196 : decode cX6_read 196 = .ok (.aastore, 1) := dk_83 (dk_at dksX6_read_8 10 rfl rfl)
theorem dX6_read_197 : decode cX6_read 197 = .ok (.aload_n 0, 1) := dk_42 (dk_at dksX6_read_8 11 rfl rfl)
theorem dX6_read_198 : decode cX6_read 198 = .ok (.bipush 59, 2) := dk_16 59 (dk_at dksX6_read_8 12 rfl rfl)
theorem dX6_read_200 : decode cX6_read 200 = .ok (.invokevirtual 131, 3) := dk_182 0 131 (dk_at dksX6_read_8 14 rfl rfl)
theorem dX6_read_203 : decode cX6_read 203 = .ok (.goto (-191), 3) := dk_167 255 65 (dk_at dksX6_read_8 17 rfl rfl)
theorem dX6_read_206 : decode cX6_read 206 = .ok (.aload_n 1, 1) := dk_43 (dk_at dksX6_read_8 20 rfl rfl)
theorem dX6_read_207 : decode cX6_read 207 = .ok (.aload_n 0, 1) := dk_42 (dk_at dksX6_read_8 21 rfl rfl)
theorem dX6_read_208 : decode cX6_read 208 = .ok (.getfield 112, 3) := dk_180 0 112 (dk_at dksX6_read_9 0 rfl rfl)
theorem dX6_read_211 : decode cX6_read 211 = .ok (.putfield 135, 3) := dk_181 0 135 (dk_at dksX6_read_9 3 rfl rfl)
theorem dX6_read_214 : decode cX6_read 214 = .ok (.aload_n 1, 1) := dk_43 (dk_at dksX6_read_9 6 rfl rfl)
theorem dX6_read_215 : decode cX6_read 215 = .ok (.areturn, 1) := dk_176 (dk_at dksX6_read_9 7 rfl rfl)
abbrev cX6_next : ByteArray := prog_14_method_8_code
def yX6_next : MethodName := ⟨RX6, "next", "()V"⟩
def dkwX6_next_9 : List UInt8 := [17, 1, 49, 181, 0, 60, 177]
abbrev dktX6_next_9 : List UInt8 := dkwX6_next_9 ++ []
def dkwX6_next_8 : List UInt8 := [42, 89, 180, 0, 19, 4, 96, 181, 0, 19, 42, 27, 16, 60, 160, 0, 9, 17, 1, 48, 167, 0, 6]
abbrev dktX6_next_8 : List UInt8 := dkwX6_next_8 ++ dktX6_next_9
def dkwX6_next_7 : List UInt8 := [181, 0, 60, 27, 16, 60, 159, 0, 9, 27, 16, 62, 160, 0, 41, 42, 182, 0, 22, 16, 61, 160, 0, 32]
abbrev dktX6_next_7 : List UInt8 := dkwX6_next_7 ++ dktX6_next_8
def dkwX6_next_6 : List UInt8 := [89, 180, 0, 19, 4, 96, 181, 0, 19, 42, 27, 184, 0, 79, 153, 0, 7, 27, 167, 0, 6, 17, 1, 47]
abbrev dktX6_next_6 : List UInt8 := dkwX6_next_6 ++ dktX6_next_7
def dkwX6_next_5 : List UInt8 := [96, 16, 48, 100, 184, 0, 73, 181, 0, 69, 42, 89, 180, 0, 19, 4, 96, 181, 0, 19, 167, 255, 215, 42]
abbrev dktX6_next_5 : List UInt8 := dkwX6_next_5 ++ dktX6_next_6
def dkwX6_next_4 : List UInt8 := [181, 0, 69, 42, 182, 0, 66, 153, 0, 118, 42, 18, 72, 16, 10, 42, 180, 0, 69, 104, 42, 182, 0, 22]
abbrev dktX6_next_4 : List UInt8 := dkwX6_next_4 ++ dktX6_next_5
def dkwX6_next_3 : List UInt8 := [182, 0, 63, 167, 0, 144, 42, 182, 0, 66, 153, 0, 59, 42, 17, 1, 45, 181, 0, 60, 42, 3]
abbrev dktX6_next_3 : List UInt8 := dkwX6_next_3 ++ dktX6_next_4
def dkwX6_next_2 : List UInt8 := [60, 27, 156, 0, 13, 42, 17, 1, 44, 181, 0, 60, 167, 0, 158, 42, 182, 0, 42, 153, 0, 10, 42]
abbrev dktX6_next_2 : List UInt8 := dkwX6_next_2 ++ dktX6_next_3
def dkwX6_next_1 : List UInt8 := [96, 181, 0, 19, 167, 255, 228, 42, 42, 180, 0, 19, 181, 0, 35, 42, 2, 181, 0, 57, 42, 182, 0, 22]
abbrev dktX6_next_1 : List UInt8 := dkwX6_next_1 ++ dktX6_next_2
def dkwX6_next_0 : List UInt8 := [42, 182, 0, 22, 16, 32, 159, 0, 12, 42, 182, 0, 22, 16, 10, 160, 0, 16, 42, 89, 180, 0, 19, 4]
abbrev dktX6_next_0 : List UInt8 := dkwX6_next_0 ++ dktX6_next_1
theorem dksX6_next_0 : cX6_next.data.toList.drop 0 = dktX6_next_0 := by decide +kernel
theorem dksX6_next_1 : cX6_next.data.toList.drop 24 = dktX6_next_1 := dk_seg dksX6_next_0 24 rfl rfl
theorem dksX6_next_2 : cX6_next.data.toList.drop 48 = dktX6_next_2 := dk_seg dksX6_next_1 24 rfl rfl
theorem dksX6_next_3 : cX6_next.data.toList.drop 71 = dktX6_next_3 := dk_seg dksX6_next_2 23 rfl rfl
theorem dksX6_next_4 : cX6_next.data.toList.drop 93 = dktX6_next_4 := dk_seg dksX6_next_3 22 rfl rfl
theorem dksX6_next_5 : cX6_next.data.toList.drop 117 = dktX6_next_5 := dk_seg dksX6_next_4 24 rfl rfl
theorem dksX6_next_6 : cX6_next.data.toList.drop 141 = dktX6_next_6 := dk_seg dksX6_next_5 24 rfl rfl
theorem dksX6_next_7 : cX6_next.data.toList.drop 165 = dktX6_next_7 := dk_seg dksX6_next_6 24 rfl rfl
theorem dksX6_next_8 : cX6_next.data.toList.drop 189 = dktX6_next_8 := dk_seg dksX6_next_7 24 rfl rfl
theorem dksX6_next_9 : cX6_next.data.toList.drop 212 = dktX6_next_9 := dk_seg dksX6_next_8 23 rfl rfl
theorem dX6_next_0 : decode cX6_next 0 = .ok (.aload_n 0, 1) := dk_42 (dk_at dksX6_next_0 0 rfl rfl)
theorem dX6_next_1 : decode cX6_next 1 = .ok (.invokevirtual 22, 3) := dk_182 0 22 (dk_at dksX6_next_0 1 rfl rfl)
theorem dX6_next_4 : decode cX6_next 4 = .ok (.bipush 32, 2) := dk_16 32 (dk_at dksX6_next_0 4 rfl rfl)
theorem dX6_next_6 : decode cX6_next 6 = .ok (.if_icmp .eq 12, 3) := dk_159 0 12 (dk_at dksX6_next_0 6 rfl rfl)
theorem dX6_next_9 : decode cX6_next 9 = .ok (.aload_n 0, 1) := dk_42 (dk_at dksX6_next_0 9 rfl rfl)
theorem dX6_next_10 : decode cX6_next 10 = .ok (.invokevirtual 22, 3) := dk_182 0 22 (dk_at dksX6_next_0 10 rfl rfl)
theorem dX6_next_13 : decode cX6_next 13 = .ok (.bipush 10, 2) := dk_16 10 (dk_at dksX6_next_0 13 rfl rfl)
theorem dX6_next_15 : decode cX6_next 15 = .ok (.if_icmp .ne 16, 3) := dk_160 0 16 (dk_at dksX6_next_0 15 rfl rfl)
theorem dX6_next_18 : decode cX6_next 18 = .ok (.aload_n 0, 1) := dk_42 (dk_at dksX6_next_0 18 rfl rfl)
theorem dX6_next_19 : decode cX6_next 19 = .ok (.dup, 1) := dk_89 (dk_at dksX6_next_0 19 rfl rfl)
theorem dX6_next_20 : decode cX6_next 20 = .ok (.getfield 19, 3) := dk_180 0 19 (dk_at dksX6_next_0 20 rfl rfl)
theorem dX6_next_23 : decode cX6_next 23 = .ok (.iconst 1, 1) := dk_4 (dk_at dksX6_next_0 23 rfl rfl)
theorem dX6_next_24 : decode cX6_next 24 = .ok (.iadd, 1) := dk_96 (dk_at dksX6_next_1 0 rfl rfl)
theorem dX6_next_25 : decode cX6_next 25 = .ok (.putfield 19, 3) := dk_181 0 19 (dk_at dksX6_next_1 1 rfl rfl)
theorem dX6_next_28 : decode cX6_next 28 = .ok (.goto (-28), 3) := dk_167 255 228 (dk_at dksX6_next_1 4 rfl rfl)
theorem dX6_next_31 : decode cX6_next 31 = .ok (.aload_n 0, 1) := dk_42 (dk_at dksX6_next_1 7 rfl rfl)
theorem dX6_next_32 : decode cX6_next 32 = .ok (.aload_n 0, 1) := dk_42 (dk_at dksX6_next_1 8 rfl rfl)
theorem dX6_next_33 : decode cX6_next 33 = .ok (.getfield 19, 3) := dk_180 0 19 (dk_at dksX6_next_1 9 rfl rfl)
theorem dX6_next_36 : decode cX6_next 36 = .ok (.putfield 35, 3) := dk_181 0 35 (dk_at dksX6_next_1 12 rfl rfl)
theorem dX6_next_39 : decode cX6_next 39 = .ok (.aload_n 0, 1) := dk_42 (dk_at dksX6_next_1 15 rfl rfl)
theorem dX6_next_40 : decode cX6_next 40 = .ok (.iconst (-1), 1) := dk_2 (dk_at dksX6_next_1 16 rfl rfl)
theorem dX6_next_41 : decode cX6_next 41 = .ok (.putfield 57, 3) := dk_181 0 57 (dk_at dksX6_next_1 17 rfl rfl)
theorem dX6_next_44 : decode cX6_next 44 = .ok (.aload_n 0, 1) := dk_42 (dk_at dksX6_next_1 20 rfl rfl)
theorem dX6_next_45 : decode cX6_next 45 = .ok (.invokevirtual 22, 3) := dk_182 0 22 (dk_at dksX6_next_1 21 rfl rfl)
theorem dX6_next_48 : decode cX6_next 48 = .ok (.istore_n 1, 1) := dk_60 (dk_at dksX6_next_2 0 rfl rfl)
theorem dX6_next_49 : decode cX6_next 49 = .ok (.iload_n 1, 1) := dk_27 (dk_at dksX6_next_2 1 rfl rfl)
theorem dX6_next_50 : decode cX6_next 50 = .ok (.ifCond .ge 13, 3) := dk_156 0 13 (dk_at dksX6_next_2 2 rfl rfl)
theorem dX6_next_53 : decode cX6_next 53 = .ok (.aload_n 0, 1) := dk_42 (dk_at dksX6_next_2 5 rfl rfl)
theorem dX6_next_54 : decode cX6_next 54 = .ok (.sipush 300, 3) := dk_17 1 44 (dk_at dksX6_next_2 6 rfl rfl)
theorem dX6_next_57 : decode cX6_next 57 = .ok (.putfield 60, 3) := dk_181 0 60 (dk_at dksX6_next_2 9 rfl rfl)
theorem dX6_next_60 : decode cX6_next 60 = .ok (.goto 158, 3) := dk_167 0 158 (dk_at dksX6_next_2 12 rfl rfl)
theorem dX6_next_63 : decode cX6_next 63 = .ok (.aload_n 0, 1) := dk_42 (dk_at dksX6_next_2 15 rfl rfl)
theorem dX6_next_64 : decode cX6_next 64 = .ok (.invokevirtual 42, 3) := dk_182 0 42 (dk_at dksX6_next_2 16 rfl rfl)
theorem dX6_next_67 : decode cX6_next 67 = .ok (.ifCond .eq 10, 3) := dk_153 0 10 (dk_at dksX6_next_2 19 rfl rfl)
theorem dX6_next_70 : decode cX6_next 70 = .ok (.aload_n 0, 1) := dk_42 (dk_at dksX6_next_2 22 rfl rfl)
theorem dX6_next_71 : decode cX6_next 71 = .ok (.invokevirtual 63, 3) := dk_182 0 63 (dk_at dksX6_next_3 0 rfl rfl)
theorem dX6_next_74 : decode cX6_next 74 = .ok (.goto 144, 3) := dk_167 0 144 (dk_at dksX6_next_3 3 rfl rfl)
theorem dX6_next_77 : decode cX6_next 77 = .ok (.aload_n 0, 1) := dk_42 (dk_at dksX6_next_3 6 rfl rfl)
theorem dX6_next_78 : decode cX6_next 78 = .ok (.invokevirtual 66, 3) := dk_182 0 66 (dk_at dksX6_next_3 7 rfl rfl)
theorem dX6_next_81 : decode cX6_next 81 = .ok (.ifCond .eq 59, 3) := dk_153 0 59 (dk_at dksX6_next_3 10 rfl rfl)
theorem dX6_next_84 : decode cX6_next 84 = .ok (.aload_n 0, 1) := dk_42 (dk_at dksX6_next_3 13 rfl rfl)
theorem dX6_next_85 : decode cX6_next 85 = .ok (.sipush 301, 3) := dk_17 1 45 (dk_at dksX6_next_3 14 rfl rfl)
theorem dX6_next_88 : decode cX6_next 88 = .ok (.putfield 60, 3) := dk_181 0 60 (dk_at dksX6_next_3 17 rfl rfl)
theorem dX6_next_91 : decode cX6_next 91 = .ok (.aload_n 0, 1) := dk_42 (dk_at dksX6_next_3 20 rfl rfl)
theorem dX6_next_92 : decode cX6_next 92 = .ok (.iconst 0, 1) := dk_3 (dk_at dksX6_next_3 21 rfl rfl)
theorem dX6_next_93 : decode cX6_next 93 = .ok (.putfield 69, 3) := dk_181 0 69 (dk_at dksX6_next_4 0 rfl rfl)
theorem dX6_next_96 : decode cX6_next 96 = .ok (.aload_n 0, 1) := dk_42 (dk_at dksX6_next_4 3 rfl rfl)
theorem dX6_next_97 : decode cX6_next 97 = .ok (.invokevirtual 66, 3) := dk_182 0 66 (dk_at dksX6_next_4 4 rfl rfl)
theorem dX6_next_100 : decode cX6_next 100 = .ok (.ifCond .eq 118, 3) := dk_153 0 118 (dk_at dksX6_next_4 7 rfl rfl)
theorem dX6_next_103 : decode cX6_next 103 = .ok (.aload_n 0, 1) := dk_42 (dk_at dksX6_next_4 10 rfl rfl)
theorem dX6_next_104 : decode cX6_next 104 = .ok (.ldc 72, 2) := dk_18 72 (dk_at dksX6_next_4 11 rfl rfl)
theorem dX6_next_106 : decode cX6_next 106 = .ok (.bipush 10, 2) := dk_16 10 (dk_at dksX6_next_4 13 rfl rfl)
theorem dX6_next_108 : decode cX6_next 108 = .ok (.aload_n 0, 1) := dk_42 (dk_at dksX6_next_4 15 rfl rfl)
theorem dX6_next_109 : decode cX6_next 109 = .ok (.getfield 69, 3) := dk_180 0 69 (dk_at dksX6_next_4 16 rfl rfl)
theorem dX6_next_112 : decode cX6_next 112 = .ok (.imul, 1) := dk_104 (dk_at dksX6_next_4 19 rfl rfl)
theorem dX6_next_113 : decode cX6_next 113 = .ok (.aload_n 0, 1) := dk_42 (dk_at dksX6_next_4 20 rfl rfl)
theorem dX6_next_114 : decode cX6_next 114 = .ok (.invokevirtual 22, 3) := dk_182 0 22 (dk_at dksX6_next_4 21 rfl rfl)
theorem dX6_next_117 : decode cX6_next 117 = .ok (.iadd, 1) := dk_96 (dk_at dksX6_next_5 0 rfl rfl)
theorem dX6_next_118 : decode cX6_next 118 = .ok (.bipush 48, 2) := dk_16 48 (dk_at dksX6_next_5 1 rfl rfl)
theorem dX6_next_120 : decode cX6_next 120 = .ok (.isub, 1) := dk_100 (dk_at dksX6_next_5 3 rfl rfl)
theorem dX6_next_121 : decode cX6_next 121 = .ok (.invokestatic 73, 3) := dk_184 0 73 (dk_at dksX6_next_5 4 rfl rfl)
theorem dX6_next_124 : decode cX6_next 124 = .ok (.putfield 69, 3) := dk_181 0 69 (dk_at dksX6_next_5 7 rfl rfl)
theorem dX6_next_127 : decode cX6_next 127 = .ok (.aload_n 0, 1) := dk_42 (dk_at dksX6_next_5 10 rfl rfl)
theorem dX6_next_128 : decode cX6_next 128 = .ok (.dup, 1) := dk_89 (dk_at dksX6_next_5 11 rfl rfl)
theorem dX6_next_129 : decode cX6_next 129 = .ok (.getfield 19, 3) := dk_180 0 19 (dk_at dksX6_next_5 12 rfl rfl)
theorem dX6_next_132 : decode cX6_next 132 = .ok (.iconst 1, 1) := dk_4 (dk_at dksX6_next_5 15 rfl rfl)
theorem dX6_next_133 : decode cX6_next 133 = .ok (.iadd, 1) := dk_96 (dk_at dksX6_next_5 16 rfl rfl)
theorem dX6_next_134 : decode cX6_next 134 = .ok (.putfield 19, 3) := dk_181 0 19 (dk_at dksX6_next_5 17 rfl rfl)
theorem dX6_next_137 : decode cX6_next 137 = .ok (.goto (-41), 3) := dk_167 255 215 (dk_at dksX6_next_5 20 rfl rfl)
theorem dX6_next_140 : decode cX6_next 140 = .ok (.aload_n 0, 1) := dk_42 (dk_at dksX6_next_5 23 rfl rfl)
theorem dX6_next_141 : decode cX6_next 141 = .ok (.dup, 1) := dk_89 (dk_at dksX6_next_6 0 rfl rfl)
theorem dX6_next_142 : decode cX6_next 142 = .ok (.getfield 19, 3) := dk_180 0 19 (dk_at dksX6_next_6 1 rfl rfl)
theorem dX6_next_145 : decode cX6_next 145 = .ok (.iconst 1, 1) := dk_4 (dk_at dksX6_next_6 4 rfl rfl)
theorem dX6_next_146 : decode cX6_next 146 = .ok (.iadd, 1) := dk_96 (dk_at dksX6_next_6 5 rfl rfl)
theorem dX6_next_147 : decode cX6_next 147 = .ok (.putfield 19, 3) := dk_181 0 19 (dk_at dksX6_next_6 6 rfl rfl)
theorem dX6_next_150 : decode cX6_next 150 = .ok (.aload_n 0, 1) := dk_42 (dk_at dksX6_next_6 9 rfl rfl)
theorem dX6_next_151 : decode cX6_next 151 = .ok (.iload_n 1, 1) := dk_27 (dk_at dksX6_next_6 10 rfl rfl)
theorem dX6_next_152 : decode cX6_next 152 = .ok (.invokestatic 79, 3) := dk_184 0 79 (dk_at dksX6_next_6 11 rfl rfl)
theorem dX6_next_155 : decode cX6_next 155 = .ok (.ifCond .eq 7, 3) := dk_153 0 7 (dk_at dksX6_next_6 14 rfl rfl)
theorem dX6_next_158 : decode cX6_next 158 = .ok (.iload_n 1, 1) := dk_27 (dk_at dksX6_next_6 17 rfl rfl)
theorem dX6_next_159 : decode cX6_next 159 = .ok (.goto 6, 3) := dk_167 0 6 (dk_at dksX6_next_6 18 rfl rfl)
theorem dX6_next_162 : decode cX6_next 162 = .ok (.sipush 303, 3) := dk_17 1 47 (dk_at dksX6_next_6 21 rfl rfl)
theorem dX6_next_165 : decode cX6_next 165 = .ok (.putfield 60, 3) := dk_181 0 60 (dk_at dksX6_next_7 0 rfl rfl)
theorem dX6_next_168 : decode cX6_next 168 = .ok (.iload_n 1, 1) := dk_27 (dk_at dksX6_next_7 3 rfl rfl)
theorem dX6_next_169 : decode cX6_next 169 = .ok (.bipush 60, 2) := dk_16 60 (dk_at dksX6_next_7 4 rfl rfl)
theorem dX6_next_171 : decode cX6_next 171 = .ok (.if_icmp .eq 9, 3) := dk_159 0 9 (dk_at dksX6_next_7 6 rfl rfl)
theorem dX6_next_174 : decode cX6_next 174 = .ok (.iload_n 1, 1) := dk_27 (dk_at dksX6_next_7 9 rfl rfl)
theorem dX6_next_175 : decode cX6_next 175 = .ok (.bipush 62, 2) := dk_16 62 (dk_at dksX6_next_7 10 rfl rfl)
theorem dX6_next_177 : decode cX6_next 177 = .ok (.if_icmp .ne 41, 3) := dk_160 0 41 (dk_at dksX6_next_7 12 rfl rfl)
theorem dX6_next_180 : decode cX6_next 180 = .ok (.aload_n 0, 1) := dk_42 (dk_at dksX6_next_7 15 rfl rfl)
theorem dX6_next_181 : decode cX6_next 181 = .ok (.invokevirtual 22, 3) := dk_182 0 22 (dk_at dksX6_next_7 16 rfl rfl)
theorem dX6_next_184 : decode cX6_next 184 = .ok (.bipush 61, 2) := dk_16 61 (dk_at dksX6_next_7 19 rfl rfl)
theorem dX6_next_186 : decode cX6_next 186 = .ok (.if_icmp .ne 32, 3) := dk_160 0 32 (dk_at dksX6_next_7 21 rfl rfl)
theorem dX6_next_189 : decode cX6_next 189 = .ok (.aload_n 0, 1) := dk_42 (dk_at dksX6_next_8 0 rfl rfl)
theorem dX6_next_190 : decode cX6_next 190 = .ok (.dup, 1) := dk_89 (dk_at dksX6_next_8 1 rfl rfl)
theorem dX6_next_191 : decode cX6_next 191 = .ok (.getfield 19, 3) := dk_180 0 19 (dk_at dksX6_next_8 2 rfl rfl)
theorem dX6_next_194 : decode cX6_next 194 = .ok (.iconst 1, 1) := dk_4 (dk_at dksX6_next_8 5 rfl rfl)
theorem dX6_next_195 : decode cX6_next 195 = .ok (.iadd, 1) := dk_96 (dk_at dksX6_next_8 6 rfl rfl)
theorem dX6_next_196 : decode cX6_next 196 = .ok (.putfield 19, 3) := dk_181 0 19 (dk_at dksX6_next_8 7 rfl rfl)
theorem dX6_next_199 : decode cX6_next 199 = .ok (.aload_n 0, 1) := dk_42 (dk_at dksX6_next_8 10 rfl rfl)
theorem dX6_next_200 : decode cX6_next 200 = .ok (.iload_n 1, 1) := dk_27 (dk_at dksX6_next_8 11 rfl rfl)
theorem dX6_next_201 : decode cX6_next 201 = .ok (.bipush 60, 2) := dk_16 60 (dk_at dksX6_next_8 12 rfl rfl)
theorem dX6_next_203 : decode cX6_next 203 = .ok (.if_icmp .ne 9, 3) := dk_160 0 9 (dk_at dksX6_next_8 14 rfl rfl)
theorem dX6_next_206 : decode cX6_next 206 = .ok (.sipush 304, 3) := dk_17 1 48 (dk_at dksX6_next_8 17 rfl rfl)
theorem dX6_next_209 : decode cX6_next 209 = .ok (.goto 6, 3) := dk_167 0 6 (dk_at dksX6_next_8 20 rfl rfl)
theorem dX6_next_212 : decode cX6_next 212 = .ok (.sipush 305, 3) := dk_17 1 49 (dk_at dksX6_next_9 0 rfl rfl)
theorem dX6_next_215 : decode cX6_next 215 = .ok (.putfield 60, 3) := dk_181 0 60 (dk_at dksX6_next_9 3 rfl rfl)
theorem dX6_next_218 : decode cX6_next 218 = .ok (.return_, 1) := dk_177 (dk_at dksX6_next_9 6 rfl rfl)
abbrev cX6_see : ByteArray := prog_14_method_2_code
def yX6_see : MethodName := ⟨RX6, "see", "()I"⟩
def dkwX6_see_1 : List UInt8 := [167, 0, 4, 2, 172]
abbrev dktX6_see_1 : List UInt8 := dkwX6_see_1 ++ []
def dkwX6_see_0 : List UInt8 := [42, 180, 0, 19, 42, 180, 0, 15, 162, 0, 19, 42, 180, 0, 9, 42, 180, 0, 19, 51, 17, 0, 255, 126]
abbrev dktX6_see_0 : List UInt8 := dkwX6_see_0 ++ dktX6_see_1
theorem dksX6_see_0 : cX6_see.data.toList.drop 0 = dktX6_see_0 := by decide +kernel
theorem dksX6_see_1 : cX6_see.data.toList.drop 24 = dktX6_see_1 := dk_seg dksX6_see_0 24 rfl rfl
theorem dX6_see_0 : decode cX6_see 0 = .ok (.aload_n 0, 1) := dk_42 (dk_at dksX6_see_0 0 rfl rfl)
theorem dX6_see_1 : decode cX6_see 1 = .ok (.getfield 19, 3) := dk_180 0 19 (dk_at dksX6_see_0 1 rfl rfl)
theorem dX6_see_4 : decode cX6_see 4 = .ok (.aload_n 0, 1) := dk_42 (dk_at dksX6_see_0 4 rfl rfl)
theorem dX6_see_5 : decode cX6_see 5 = .ok (.getfield 15, 3) := dk_180 0 15 (dk_at dksX6_see_0 5 rfl rfl)
theorem dX6_see_8 : decode cX6_see 8 = .ok (.if_icmp .ge 19, 3) := dk_162 0 19 (dk_at dksX6_see_0 8 rfl rfl)
theorem dX6_see_11 : decode cX6_see 11 = .ok (.aload_n 0, 1) := dk_42 (dk_at dksX6_see_0 11 rfl rfl)
theorem dX6_see_12 : decode cX6_see 12 = .ok (.getfield 9, 3) := dk_180 0 9 (dk_at dksX6_see_0 12 rfl rfl)
theorem dX6_see_15 : decode cX6_see 15 = .ok (.aload_n 0, 1) := dk_42 (dk_at dksX6_see_0 15 rfl rfl)
theorem dX6_see_16 : decode cX6_see 16 = .ok (.getfield 19, 3) := dk_180 0 19 (dk_at dksX6_see_0 16 rfl rfl)
theorem dX6_see_19 : decode cX6_see 19 = .ok (.baload, 1) := dk_51 (dk_at dksX6_see_0 19 rfl rfl)
theorem dX6_see_20 : decode cX6_see 20 = .ok (.sipush 255, 3) := dk_17 0 255 (dk_at dksX6_see_0 20 rfl rfl)
theorem dX6_see_23 : decode cX6_see 23 = .ok (.iand, 1) := dk_126 (dk_at dksX6_see_0 23 rfl rfl)
theorem dX6_see_24 : decode cX6_see 24 = .ok (.goto 4, 3) := dk_167 0 4 (dk_at dksX6_see_1 0 rfl rfl)
theorem dX6_see_27 : decode cX6_see 27 = .ok (.iconst (-1), 1) := dk_2 (dk_at dksX6_see_1 3 rfl rfl)
theorem dX6_see_28 : decode cX6_see 28 = .ok (.ireturn, 1) := dk_172 (dk_at dksX6_see_1 4 rfl rfl)
abbrev cX6_isLetter : ByteArray := prog_14_method_3_code
def yX6_isLetter : MethodName := ⟨RX6, "isLetter", "()Z"⟩
def dkwX6_isLetter_1 : List UInt8 := [184, 0, 26, 153, 0, 7, 4, 167, 0, 4, 3, 172]
abbrev dktX6_isLetter_1 : List UInt8 := dkwX6_isLetter_1 ++ []
def dkwX6_isLetter_0 : List UInt8 := [42, 182, 0, 22, 16, 97, 16, 122, 184, 0, 26, 154, 0, 17, 42, 182, 0, 22, 16, 65, 16, 90]
abbrev dktX6_isLetter_0 : List UInt8 := dkwX6_isLetter_0 ++ dktX6_isLetter_1
theorem dksX6_isLetter_0 : cX6_isLetter.data.toList.drop 0 = dktX6_isLetter_0 := by decide +kernel
theorem dksX6_isLetter_1 : cX6_isLetter.data.toList.drop 22 = dktX6_isLetter_1 := dk_seg dksX6_isLetter_0 22 rfl rfl
theorem dX6_isLetter_0 : decode cX6_isLetter 0 = .ok (.aload_n 0, 1) := dk_42 (dk_at dksX6_isLetter_0 0 rfl rfl)
theorem dX6_isLetter_1 : decode cX6_isLetter 1 = .ok (.invokevirtual 22, 3) := dk_182 0 22 (dk_at dksX6_isLetter_0 1 rfl rfl)
theorem dX6_isLetter_4 : decode cX6_isLetter 4 = .ok (.bipush 97, 2) := dk_16 97 (dk_at dksX6_isLetter_0 4 rfl rfl)
theorem dX6_isLetter_6 : decode cX6_isLetter 6 = .ok (.bipush 122, 2) := dk_16 122 (dk_at dksX6_isLetter_0 6 rfl rfl)
theorem dX6_isLetter_8 : decode cX6_isLetter 8 = .ok (.invokestatic 26, 3) := dk_184 0 26 (dk_at dksX6_isLetter_0 8 rfl rfl)
theorem dX6_isLetter_11 : decode cX6_isLetter 11 = .ok (.ifCond .ne 17, 3) := dk_154 0 17 (dk_at dksX6_isLetter_0 11 rfl rfl)
theorem dX6_isLetter_14 : decode cX6_isLetter 14 = .ok (.aload_n 0, 1) := dk_42 (dk_at dksX6_isLetter_0 14 rfl rfl)
theorem dX6_isLetter_15 : decode cX6_isLetter 15 = .ok (.invokevirtual 22, 3) := dk_182 0 22 (dk_at dksX6_isLetter_0 15 rfl rfl)
theorem dX6_isLetter_18 : decode cX6_isLetter 18 = .ok (.bipush 65, 2) := dk_16 65 (dk_at dksX6_isLetter_0 18 rfl rfl)
theorem dX6_isLetter_20 : decode cX6_isLetter 20 = .ok (.bipush 90, 2) := dk_16 90 (dk_at dksX6_isLetter_0 20 rfl rfl)
theorem dX6_isLetter_22 : decode cX6_isLetter 22 = .ok (.invokestatic 26, 3) := dk_184 0 26 (dk_at dksX6_isLetter_1 0 rfl rfl)
theorem dX6_isLetter_25 : decode cX6_isLetter 25 = .ok (.ifCond .eq 7, 3) := dk_153 0 7 (dk_at dksX6_isLetter_1 3 rfl rfl)
theorem dX6_isLetter_28 : decode cX6_isLetter 28 = .ok (.iconst 1, 1) := dk_4 (dk_at dksX6_isLetter_1 6 rfl rfl)
theorem dX6_isLetter_29 : decode cX6_isLetter 29 = .ok (.goto 4, 3) := dk_167 0 4 (dk_at dksX6_isLetter_1 7 rfl rfl)
theorem dX6_isLetter_32 : decode cX6_isLetter 32 = .ok (.iconst 0, 1) := dk_3 (dk_at dksX6_isLetter_1 10 rfl rfl)
theorem dX6_isLetter_33 : decode cX6_isLetter 33 = .ok (.ireturn, 1) := dk_172 (dk_at dksX6_isLetter_1 11 rfl rfl)
abbrev cX6_word : ByteArray := prog_14_method_7_code
def yX6_word : MethodName := ⟨RX6, "word", "()V"⟩
def dkwX6_word_2 : List UInt8 := [96, 167, 0, 19, 42, 180, 0, 57, 155, 0, 9, 17, 1, 46, 167, 0, 6, 17, 1, 47, 181, 0, 60, 177]
abbrev dktX6_word_2 : List UInt8 := dkwX6_word_2 ++ []
def dkwX6_word_1 : List UInt8 := [182, 0, 50, 60, 42, 42, 178, 0, 54, 182, 0, 50, 181, 0, 57, 42, 27, 155, 0, 11, 17, 1, 54, 27]
abbrev dktX6_word_1 : List UInt8 := dkwX6_word_1 ++ dktX6_word_2
def dkwX6_word_0 : List UInt8 := [42, 182, 0, 42, 153, 0, 16, 42, 89, 180, 0, 19, 4, 96, 181, 0, 19, 167, 255, 239, 42, 178, 0, 46]
abbrev dktX6_word_0 : List UInt8 := dkwX6_word_0 ++ dktX6_word_1
theorem dksX6_word_0 : cX6_word.data.toList.drop 0 = dktX6_word_0 := by decide +kernel
theorem dksX6_word_1 : cX6_word.data.toList.drop 24 = dktX6_word_1 := dk_seg dksX6_word_0 24 rfl rfl
theorem dksX6_word_2 : cX6_word.data.toList.drop 48 = dktX6_word_2 := dk_seg dksX6_word_1 24 rfl rfl
theorem dX6_word_0 : decode cX6_word 0 = .ok (.aload_n 0, 1) := dk_42 (dk_at dksX6_word_0 0 rfl rfl)
theorem dX6_word_1 : decode cX6_word 1 = .ok (.invokevirtual 42, 3) := dk_182 0 42 (dk_at dksX6_word_0 1 rfl rfl)
theorem dX6_word_4 : decode cX6_word 4 = .ok (.ifCond .eq 16, 3) := dk_153 0 16 (dk_at dksX6_word_0 4 rfl rfl)
theorem dX6_word_7 : decode cX6_word 7 = .ok (.aload_n 0, 1) := dk_42 (dk_at dksX6_word_0 7 rfl rfl)
theorem dX6_word_8 : decode cX6_word 8 = .ok (.dup, 1) := dk_89 (dk_at dksX6_word_0 8 rfl rfl)
theorem dX6_word_9 : decode cX6_word 9 = .ok (.getfield 19, 3) := dk_180 0 19 (dk_at dksX6_word_0 9 rfl rfl)
theorem dX6_word_12 : decode cX6_word 12 = .ok (.iconst 1, 1) := dk_4 (dk_at dksX6_word_0 12 rfl rfl)
theorem dX6_word_13 : decode cX6_word 13 = .ok (.iadd, 1) := dk_96 (dk_at dksX6_word_0 13 rfl rfl)
theorem dX6_word_14 : decode cX6_word 14 = .ok (.putfield 19, 3) := dk_181 0 19 (dk_at dksX6_word_0 14 rfl rfl)
theorem dX6_word_17 : decode cX6_word 17 = .ok (.goto (-17), 3) := dk_167 255 239 (dk_at dksX6_word_0 17 rfl rfl)
theorem dX6_word_20 : decode cX6_word 20 = .ok (.aload_n 0, 1) := dk_42 (dk_at dksX6_word_0 20 rfl rfl)
theorem dX6_word_21 : decode cX6_word 21 = .ok (.getstatic 46, 3) := dk_178 0 46 (dk_at dksX6_word_0 21 rfl rfl)
theorem dX6_word_24 : decode cX6_word 24 = .ok (.invokevirtual 50, 3) := dk_182 0 50 (dk_at dksX6_word_1 0 rfl rfl)
theorem dX6_word_27 : decode cX6_word 27 = .ok (.istore_n 1, 1) := dk_60 (dk_at dksX6_word_1 3 rfl rfl)
theorem dX6_word_28 : decode cX6_word 28 = .ok (.aload_n 0, 1) := dk_42 (dk_at dksX6_word_1 4 rfl rfl)
theorem dX6_word_29 : decode cX6_word 29 = .ok (.aload_n 0, 1) := dk_42 (dk_at dksX6_word_1 5 rfl rfl)
theorem dX6_word_30 : decode cX6_word 30 = .ok (.getstatic 54, 3) := dk_178 0 54 (dk_at dksX6_word_1 6 rfl rfl)
theorem dX6_word_33 : decode cX6_word 33 = .ok (.invokevirtual 50, 3) := dk_182 0 50 (dk_at dksX6_word_1 9 rfl rfl)
theorem dX6_word_36 : decode cX6_word 36 = .ok (.putfield 57, 3) := dk_181 0 57 (dk_at dksX6_word_1 12 rfl rfl)
theorem dX6_word_39 : decode cX6_word 39 = .ok (.aload_n 0, 1) := dk_42 (dk_at dksX6_word_1 15 rfl rfl)
theorem dX6_word_40 : decode cX6_word 40 = .ok (.iload_n 1, 1) := dk_27 (dk_at dksX6_word_1 16 rfl rfl)
theorem dX6_word_41 : decode cX6_word 41 = .ok (.ifCond .lt 11, 3) := dk_155 0 11 (dk_at dksX6_word_1 17 rfl rfl)
theorem dX6_word_44 : decode cX6_word 44 = .ok (.sipush 310, 3) := dk_17 1 54 (dk_at dksX6_word_1 20 rfl rfl)
theorem dX6_word_47 : decode cX6_word 47 = .ok (.iload_n 1, 1) := dk_27 (dk_at dksX6_word_1 23 rfl rfl)
theorem dX6_word_48 : decode cX6_word 48 = .ok (.iadd, 1) := dk_96 (dk_at dksX6_word_2 0 rfl rfl)
theorem dX6_word_49 : decode cX6_word 49 = .ok (.goto 19, 3) := dk_167 0 19 (dk_at dksX6_word_2 1 rfl rfl)
theorem dX6_word_52 : decode cX6_word 52 = .ok (.aload_n 0, 1) := dk_42 (dk_at dksX6_word_2 4 rfl rfl)
theorem dX6_word_53 : decode cX6_word 53 = .ok (.getfield 57, 3) := dk_180 0 57 (dk_at dksX6_word_2 5 rfl rfl)
theorem dX6_word_56 : decode cX6_word 56 = .ok (.ifCond .lt 9, 3) := dk_155 0 9 (dk_at dksX6_word_2 8 rfl rfl)
theorem dX6_word_59 : decode cX6_word 59 = .ok (.sipush 302, 3) := dk_17 1 46 (dk_at dksX6_word_2 11 rfl rfl)
theorem dX6_word_62 : decode cX6_word 62 = .ok (.goto 6, 3) := dk_167 0 6 (dk_at dksX6_word_2 14 rfl rfl)
theorem dX6_word_65 : decode cX6_word 65 = .ok (.sipush 303, 3) := dk_17 1 47 (dk_at dksX6_word_2 17 rfl rfl)
theorem dX6_word_68 : decode cX6_word 68 = .ok (.putfield 60, 3) := dk_181 0 60 (dk_at dksX6_word_2 20 rfl rfl)
theorem dX6_word_71 : decode cX6_word 71 = .ok (.return_, 1) := dk_177 (dk_at dksX6_word_2 23 rfl rfl)
abbrev cX6_wordOf : ByteArray := prog_14_method_6_code
def yX6_wordOf : MethodName := ⟨RX6, "wordOf", "([Ljava/lang/String;)I"⟩
def dkwX6_wordOf_4 : List UInt8 := [167, 255, 164, 2, 172]
abbrev dktX6_wordOf_4 : List UInt8 := dkwX6_wordOf_4 ++ []
def dkwX6_wordOf_3 : List UInt8 := [160, 0, 7, 4, 167, 0, 4, 3, 62, 132, 4, 1, 167, 255, 209, 29, 153, 0, 5, 28, 172, 132, 2, 1]
abbrev dktX6_wordOf_3 : List UInt8 := dkwX6_wordOf_3 ++ dktX6_wordOf_4
def dkwX6_wordOf_2 : List UInt8 := [153, 0, 38, 42, 180, 0, 9, 42, 180, 0, 35, 21, 4, 96, 51, 43, 28, 50, 21, 4, 182, 0, 38]
abbrev dktX6_wordOf_2 : List UInt8 := dkwX6_wordOf_2 ++ dktX6_wordOf_3
def dkwX6_wordOf_1 : List UInt8 := [160, 0, 7, 4, 167, 0, 4, 3, 62, 3, 54, 4, 21, 4, 43, 28, 50, 182, 0, 30, 162, 0, 42, 29]
abbrev dktX6_wordOf_1 : List UInt8 := dkwX6_wordOf_1 ++ dktX6_wordOf_2
def dkwX6_wordOf_0 : List UInt8 := [3, 61, 28, 43, 190, 162, 0, 92, 43, 28, 50, 182, 0, 30, 42, 180, 0, 19, 42, 180, 0, 35, 100]
abbrev dktX6_wordOf_0 : List UInt8 := dkwX6_wordOf_0 ++ dktX6_wordOf_1
theorem dksX6_wordOf_0 : cX6_wordOf.data.toList.drop 0 = dktX6_wordOf_0 := by decide +kernel
theorem dksX6_wordOf_1 : cX6_wordOf.data.toList.drop 23 = dktX6_wordOf_1 := dk_seg dksX6_wordOf_0 23 rfl rfl
theorem dksX6_wordOf_2 : cX6_wordOf.data.toList.drop 47 = dktX6_wordOf_2 := dk_seg dksX6_wordOf_1 24 rfl rfl
theorem dksX6_wordOf_3 : cX6_wordOf.data.toList.drop 70 = dktX6_wordOf_3 := dk_seg dksX6_wordOf_2 23 rfl rfl
theorem dksX6_wordOf_4 : cX6_wordOf.data.toList.drop 94 = dktX6_wordOf_4 := dk_seg dksX6_wordOf_3 24 rfl rfl
theorem dX6_wordOf_0 : decode cX6_wordOf 0 = .ok (.iconst 0, 1) := dk_3 (dk_at dksX6_wordOf_0 0 rfl rfl)
theorem dX6_wordOf_1 : decode cX6_wordOf 1 = .ok (.istore_n 2, 1) := dk_61 (dk_at dksX6_wordOf_0 1 rfl rfl)
theorem dX6_wordOf_2 : decode cX6_wordOf 2 = .ok (.iload_n 2, 1) := dk_28 (dk_at dksX6_wordOf_0 2 rfl rfl)
theorem dX6_wordOf_3 : decode cX6_wordOf 3 = .ok (.aload_n 1, 1) := dk_43 (dk_at dksX6_wordOf_0 3 rfl rfl)
theorem dX6_wordOf_4 : decode cX6_wordOf 4 = .ok (.arraylength, 1) := dk_190 (dk_at dksX6_wordOf_0 4 rfl rfl)
theorem dX6_wordOf_5 : decode cX6_wordOf 5 = .ok (.if_icmp .ge 92, 3) := dk_162 0 92 (dk_at dksX6_wordOf_0 5 rfl rfl)
theorem dX6_wordOf_8 : decode cX6_wordOf 8 = .ok (.aload_n 1, 1) := dk_43 (dk_at dksX6_wordOf_0 8 rfl rfl)
theorem dX6_wordOf_9 : decode cX6_wordOf 9 = .ok (.iload_n 2, 1) := dk_28 (dk_at dksX6_wordOf_0 9 rfl rfl)
theorem dX6_wordOf_10 : decode cX6_wordOf 10 = .ok (.aaload, 1) := dk_50 (dk_at dksX6_wordOf_0 10 rfl rfl)
theorem dX6_wordOf_11 : decode cX6_wordOf 11 = .ok (.invokevirtual 30, 3) := dk_182 0 30 (dk_at dksX6_wordOf_0 11 rfl rfl)
theorem dX6_wordOf_14 : decode cX6_wordOf 14 = .ok (.aload_n 0, 1) := dk_42 (dk_at dksX6_wordOf_0 14 rfl rfl)
theorem dX6_wordOf_15 : decode cX6_wordOf 15 = .ok (.getfield 19, 3) := dk_180 0 19 (dk_at dksX6_wordOf_0 15 rfl rfl)
theorem dX6_wordOf_18 : decode cX6_wordOf 18 = .ok (.aload_n 0, 1) := dk_42 (dk_at dksX6_wordOf_0 18 rfl rfl)
theorem dX6_wordOf_19 : decode cX6_wordOf 19 = .ok (.getfield 35, 3) := dk_180 0 35 (dk_at dksX6_wordOf_0 19 rfl rfl)
theorem dX6_wordOf_22 : decode cX6_wordOf 22 = .ok (.isub, 1) := dk_100 (dk_at dksX6_wordOf_0 22 rfl rfl)
theorem dX6_wordOf_23 : decode cX6_wordOf 23 = .ok (.if_icmp .ne 7, 3) := dk_160 0 7 (dk_at dksX6_wordOf_1 0 rfl rfl)
theorem dX6_wordOf_26 : decode cX6_wordOf 26 = .ok (.iconst 1, 1) := dk_4 (dk_at dksX6_wordOf_1 3 rfl rfl)
theorem dX6_wordOf_27 : decode cX6_wordOf 27 = .ok (.goto 4, 3) := dk_167 0 4 (dk_at dksX6_wordOf_1 4 rfl rfl)
theorem dX6_wordOf_30 : decode cX6_wordOf 30 = .ok (.iconst 0, 1) := dk_3 (dk_at dksX6_wordOf_1 7 rfl rfl)
theorem dX6_wordOf_31 : decode cX6_wordOf 31 = .ok (.istore_n 3, 1) := dk_62 (dk_at dksX6_wordOf_1 8 rfl rfl)
theorem dX6_wordOf_32 : decode cX6_wordOf 32 = .ok (.iconst 0, 1) := dk_3 (dk_at dksX6_wordOf_1 9 rfl rfl)
theorem dX6_wordOf_33 : decode cX6_wordOf 33 = .ok (.istore 4, 2) := dk_54 4 (dk_at dksX6_wordOf_1 10 rfl rfl)
theorem dX6_wordOf_35 : decode cX6_wordOf 35 = .ok (.iload 4, 2) := dk_21 4 (dk_at dksX6_wordOf_1 12 rfl rfl)
theorem dX6_wordOf_37 : decode cX6_wordOf 37 = .ok (.aload_n 1, 1) := dk_43 (dk_at dksX6_wordOf_1 14 rfl rfl)
theorem dX6_wordOf_38 : decode cX6_wordOf 38 = .ok (.iload_n 2, 1) := dk_28 (dk_at dksX6_wordOf_1 15 rfl rfl)
theorem dX6_wordOf_39 : decode cX6_wordOf 39 = .ok (.aaload, 1) := dk_50 (dk_at dksX6_wordOf_1 16 rfl rfl)
theorem dX6_wordOf_40 : decode cX6_wordOf 40 = .ok (.invokevirtual 30, 3) := dk_182 0 30 (dk_at dksX6_wordOf_1 17 rfl rfl)
theorem dX6_wordOf_43 : decode cX6_wordOf 43 = .ok (.if_icmp .ge 42, 3) := dk_162 0 42 (dk_at dksX6_wordOf_1 20 rfl rfl)
theorem dX6_wordOf_46 : decode cX6_wordOf 46 = .ok (.iload_n 3, 1) := dk_29 (dk_at dksX6_wordOf_1 23 rfl rfl)
theorem dX6_wordOf_47 : decode cX6_wordOf 47 = .ok (.ifCond .eq 38, 3) := dk_153 0 38 (dk_at dksX6_wordOf_2 0 rfl rfl)
theorem dX6_wordOf_50 : decode cX6_wordOf 50 = .ok (.aload_n 0, 1) := dk_42 (dk_at dksX6_wordOf_2 3 rfl rfl)
theorem dX6_wordOf_51 : decode cX6_wordOf 51 = .ok (.getfield 9, 3) := dk_180 0 9 (dk_at dksX6_wordOf_2 4 rfl rfl)
theorem dX6_wordOf_54 : decode cX6_wordOf 54 = .ok (.aload_n 0, 1) := dk_42 (dk_at dksX6_wordOf_2 7 rfl rfl)
theorem dX6_wordOf_55 : decode cX6_wordOf 55 = .ok (.getfield 35, 3) := dk_180 0 35 (dk_at dksX6_wordOf_2 8 rfl rfl)
theorem dX6_wordOf_58 : decode cX6_wordOf 58 = .ok (.iload 4, 2) := dk_21 4 (dk_at dksX6_wordOf_2 11 rfl rfl)
theorem dX6_wordOf_60 : decode cX6_wordOf 60 = .ok (.iadd, 1) := dk_96 (dk_at dksX6_wordOf_2 13 rfl rfl)
theorem dX6_wordOf_61 : decode cX6_wordOf 61 = .ok (.baload, 1) := dk_51 (dk_at dksX6_wordOf_2 14 rfl rfl)
theorem dX6_wordOf_62 : decode cX6_wordOf 62 = .ok (.aload_n 1, 1) := dk_43 (dk_at dksX6_wordOf_2 15 rfl rfl)
theorem dX6_wordOf_63 : decode cX6_wordOf 63 = .ok (.iload_n 2, 1) := dk_28 (dk_at dksX6_wordOf_2 16 rfl rfl)
theorem dX6_wordOf_64 : decode cX6_wordOf 64 = .ok (.aaload, 1) := dk_50 (dk_at dksX6_wordOf_2 17 rfl rfl)
theorem dX6_wordOf_65 : decode cX6_wordOf 65 = .ok (.iload 4, 2) := dk_21 4 (dk_at dksX6_wordOf_2 18 rfl rfl)
theorem dX6_wordOf_67 : decode cX6_wordOf 67 = .ok (.invokevirtual 38, 3) := dk_182 0 38 (dk_at dksX6_wordOf_2 20 rfl rfl)
theorem dX6_wordOf_70 : decode cX6_wordOf 70 = .ok (.if_icmp .ne 7, 3) := dk_160 0 7 (dk_at dksX6_wordOf_3 0 rfl rfl)
theorem dX6_wordOf_73 : decode cX6_wordOf 73 = .ok (.iconst 1, 1) := dk_4 (dk_at dksX6_wordOf_3 3 rfl rfl)
theorem dX6_wordOf_74 : decode cX6_wordOf 74 = .ok (.goto 4, 3) := dk_167 0 4 (dk_at dksX6_wordOf_3 4 rfl rfl)
theorem dX6_wordOf_77 : decode cX6_wordOf 77 = .ok (.iconst 0, 1) := dk_3 (dk_at dksX6_wordOf_3 7 rfl rfl)
theorem dX6_wordOf_78 : decode cX6_wordOf 78 = .ok (.istore_n 3, 1) := dk_62 (dk_at dksX6_wordOf_3 8 rfl rfl)
theorem dX6_wordOf_79 : decode cX6_wordOf 79 = .ok (.iinc 4 1, 3) := dk_132 4 1 (dk_at dksX6_wordOf_3 9 rfl rfl)
theorem dX6_wordOf_82 : decode cX6_wordOf 82 = .ok (.goto (-47), 3) := dk_167 255 209 (dk_at dksX6_wordOf_3 12 rfl rfl)
theorem dX6_wordOf_85 : decode cX6_wordOf 85 = .ok (.iload_n 3, 1) := dk_29 (dk_at dksX6_wordOf_3 15 rfl rfl)
theorem dX6_wordOf_86 : decode cX6_wordOf 86 = .ok (.ifCond .eq 5, 3) := dk_153 0 5 (dk_at dksX6_wordOf_3 16 rfl rfl)
theorem dX6_wordOf_89 : decode cX6_wordOf 89 = .ok (.iload_n 2, 1) := dk_28 (dk_at dksX6_wordOf_3 19 rfl rfl)
theorem dX6_wordOf_90 : decode cX6_wordOf 90 = .ok (.ireturn, 1) := dk_172 (dk_at dksX6_wordOf_3 20 rfl rfl)
theorem dX6_wordOf_91 : decode cX6_wordOf 91 = .ok (.iinc 2 1, 3) := dk_132 2 1 (dk_at dksX6_wordOf_3 21 rfl rfl)
theorem dX6_wordOf_94 : decode cX6_wordOf 94 = .ok (.goto (-92), 3) := dk_167 255 164 (dk_at dksX6_wordOf_4 0 rfl rfl)
theorem dX6_wordOf_97 : decode cX6_wordOf 97 = .ok (.iconst (-1), 1) := dk_2 (dk_at dksX6_wordOf_4 3 rfl rfl)
theorem dX6_wordOf_98 : decode cX6_wordOf 98 = .ok (.ireturn, 1) := dk_172 (dk_at dksX6_wordOf_4 4 rfl rfl)
abbrev cX6_isDigit : ByteArray := prog_14_method_4_code
def yX6_isDigit : MethodName := ⟨RX6, "isDigit", "()Z"⟩
def dkwX6_isDigit_0 : List UInt8 := [42, 182, 0, 22, 16, 48, 16, 57, 184, 0, 26, 172]
abbrev dktX6_isDigit_0 : List UInt8 := dkwX6_isDigit_0 ++ []
theorem dksX6_isDigit_0 : cX6_isDigit.data.toList.drop 0 = dktX6_isDigit_0 := by decide +kernel
theorem dX6_isDigit_0 : decode cX6_isDigit 0 = .ok (.aload_n 0, 1) := dk_42 (dk_at dksX6_isDigit_0 0 rfl rfl)
theorem dX6_isDigit_1 : decode cX6_isDigit 1 = .ok (.invokevirtual 22, 3) := dk_182 0 22 (dk_at dksX6_isDigit_0 1 rfl rfl)
theorem dX6_isDigit_4 : decode cX6_isDigit 4 = .ok (.bipush 48, 2) := dk_16 48 (dk_at dksX6_isDigit_0 4 rfl rfl)
theorem dX6_isDigit_6 : decode cX6_isDigit 6 = .ok (.bipush 57, 2) := dk_16 57 (dk_at dksX6_isDigit_0 6 rfl rfl)
theorem dX6_isDigit_8 : decode cX6_isDigit 8 = .ok (.invokestatic 26, 3) := dk_184 0 26 (dk_at dksX6_isDigit_0 8 rfl rfl)
theorem dX6_isDigit_11 : decode cX6_isDigit 11 = .ok (.ireturn, 1) := dk_172 (dk_at dksX6_isDigit_0 11 rfl rfl)
abbrev cX6_isSign : ByteArray := prog_14_method_5_code
def yX6_isSign : MethodName := ⟨RX6, "isSign", "(I)Z"⟩
def dkwX6_isSign_2 : List UInt8 := [4, 172, 3, 172]
abbrev dktX6_isSign_2 : List UInt8 := dkwX6_isSign_2 ++ []
def dkwX6_isSign_1 : List UInt8 := [170, 0, 0, 0, 0, 0, 129, 0, 0, 0, 35, 0, 0, 0, 62, 0, 0, 0, 127, 0, 0, 0, 129, 0, 0, 0, 129, 0, 0, 0, 129, 0, 0, 0, 129, 0, 0, 0, 127, 0, 0, 0, 127, 0, 0, 0, 127, 0, 0, 0, 127, 0, 0, 0, 129, 0, 0, 0, 127, 0, 0, 0, 129, 0, 0, 0, 127, 0, 0, 0, 129, 0, 0, 0, 129, 0, 0, 0, 129, 0, 0, 0, 129, 0, 0, 0, 129, 0, 0, 0, 129, 0, 0, 0, 129, 0, 0, 0, 129, 0, 0, 0, 129, 0, 0, 0, 129, 0, 0, 0, 129, 0, 0, 0, 127, 0, 0, 0, 127, 0, 0, 0, 127, 0, 0, 0, 127]
abbrev dktX6_isSign_1 : List UInt8 := dkwX6_isSign_1 ++ dktX6_isSign_2
def dkwX6_isSign_0 : List UInt8 := [26]
abbrev dktX6_isSign_0 : List UInt8 := dkwX6_isSign_0 ++ dktX6_isSign_1
theorem dksX6_isSign_0 : cX6_isSign.data.toList.drop 0 = dktX6_isSign_0 := by decide +kernel
theorem dksX6_isSign_1 : cX6_isSign.data.toList.drop 1 = dktX6_isSign_1 := dk_seg dksX6_isSign_0 1 rfl rfl
theorem dksX6_isSign_2 : cX6_isSign.data.toList.drop 128 = dktX6_isSign_2 := dk_seg dksX6_isSign_1 127 rfl rfl
theorem dX6_isSign_0 : decode cX6_isSign 0 = .ok (.iload_n 0, 1) := dk_26 (dk_at dksX6_isSign_0 0 rfl rfl)
theorem dX6_isSign_1 : decode cX6_isSign 1 = .ok (.tableswitch 129 35 62 #[127, 129, 129, 129, 129, 127, 127, 127, 127, 129, 127, 129, 127, 129, 129, 129, 129, 129, 129, 129, 129, 129, 129, 129, 127, 127, 127, 127], 127) := by decide +kernel
theorem dX6_isSign_128 : decode cX6_isSign 128 = .ok (.iconst 1, 1) := dk_4 (dk_at dksX6_isSign_2 0 rfl rfl)
theorem dX6_isSign_129 : decode cX6_isSign 129 = .ok (.ireturn, 1) := dk_172 (dk_at dksX6_isSign_2 1 rfl rfl)
theorem dX6_isSign_130 : decode cX6_isSign 130 = .ok (.iconst 0, 1) := dk_3 (dk_at dksX6_isSign_2 2 rfl rfl)
theorem dX6_isSign_131 : decode cX6_isSign 131 = .ok (.ireturn, 1) := dk_172 (dk_at dksX6_isSign_2 3 rfl rfl)
abbrev cX6_wrong : ByteArray := prog_14_method_9_code
def yX6_wrong : MethodName := ⟨RX6, "wrong", "(I)LSpoonScales$Wrong;"⟩
def dkwX6_wrong_0 : List UInt8 := [187, 0, 83, 89, 27, 42, 180, 0, 35, 183, 0, 85, 176]
abbrev dktX6_wrong_0 : List UInt8 := dkwX6_wrong_0 ++ []
theorem dksX6_wrong_0 : cX6_wrong.data.toList.drop 0 = dktX6_wrong_0 := by decide +kernel
theorem dX6_wrong_0 : decode cX6_wrong 0 = .ok (.new 83, 3) := dk_187 0 83 (dk_at dksX6_wrong_0 0 rfl rfl)
theorem dX6_wrong_3 : decode cX6_wrong 3 = .ok (.dup, 1) := dk_89 (dk_at dksX6_wrong_0 3 rfl rfl)
theorem dX6_wrong_4 : decode cX6_wrong 4 = .ok (.iload_n 1, 1) := dk_27 (dk_at dksX6_wrong_0 4 rfl rfl)
theorem dX6_wrong_5 : decode cX6_wrong 5 = .ok (.aload_n 0, 1) := dk_42 (dk_at dksX6_wrong_0 5 rfl rfl)
theorem dX6_wrong_6 : decode cX6_wrong 6 = .ok (.getfield 35, 3) := dk_180 0 35 (dk_at dksX6_wrong_0 6 rfl rfl)
theorem dX6_wrong_9 : decode cX6_wrong 9 = .ok (.invokespecial 85, 3) := dk_183 0 85 (dk_at dksX6_wrong_0 9 rfl rfl)
theorem dX6_wrong_12 : decode cX6_wrong 12 = .ok (.areturn, 1) := dk_176 (dk_at dksX6_wrong_0 12 rfl rfl)
abbrev cX6_sum : ByteArray := prog_14_method_20_code
def yX6_sum : MethodName := ⟨RX6, "sum", "()LSpoonScales$Sum;"⟩
def dkwX6_sum_2 : List UInt8 := [167, 255, 215, 43, 176]
abbrev dktX6_sum_2 : List UInt8 := dkwX6_sum_2 ++ []
def dkwX6_sum_1 : List UInt8 := [180, 0, 60, 61, 42, 182, 0, 92, 187, 0, 182, 89, 28, 43, 42, 182, 0, 179, 183, 0, 184, 76]
abbrev dktX6_sum_1 : List UInt8 := dkwX6_sum_1 ++ dktX6_sum_2
def dkwX6_sum_0 : List UInt8 := [42, 182, 0, 179, 76, 42, 180, 0, 60, 16, 43, 159, 0, 12, 42, 180, 0, 60, 16, 45, 160, 0, 29, 42]
abbrev dktX6_sum_0 : List UInt8 := dkwX6_sum_0 ++ dktX6_sum_1
theorem dksX6_sum_0 : cX6_sum.data.toList.drop 0 = dktX6_sum_0 := by decide +kernel
theorem dksX6_sum_1 : cX6_sum.data.toList.drop 24 = dktX6_sum_1 := dk_seg dksX6_sum_0 24 rfl rfl
theorem dksX6_sum_2 : cX6_sum.data.toList.drop 46 = dktX6_sum_2 := dk_seg dksX6_sum_1 22 rfl rfl
theorem dX6_sum_0 : decode cX6_sum 0 = .ok (.aload_n 0, 1) := dk_42 (dk_at dksX6_sum_0 0 rfl rfl)
theorem dX6_sum_1 : decode cX6_sum 1 = .ok (.invokevirtual 179, 3) := dk_182 0 179 (dk_at dksX6_sum_0 1 rfl rfl)
theorem dX6_sum_4 : decode cX6_sum 4 = .ok (.astore_n 1, 1) := dk_76 (dk_at dksX6_sum_0 4 rfl rfl)
theorem dX6_sum_5 : decode cX6_sum 5 = .ok (.aload_n 0, 1) := dk_42 (dk_at dksX6_sum_0 5 rfl rfl)
theorem dX6_sum_6 : decode cX6_sum 6 = .ok (.getfield 60, 3) := dk_180 0 60 (dk_at dksX6_sum_0 6 rfl rfl)
theorem dX6_sum_9 : decode cX6_sum 9 = .ok (.bipush 43, 2) := dk_16 43 (dk_at dksX6_sum_0 9 rfl rfl)
theorem dX6_sum_11 : decode cX6_sum 11 = .ok (.if_icmp .eq 12, 3) := dk_159 0 12 (dk_at dksX6_sum_0 11 rfl rfl)
theorem dX6_sum_14 : decode cX6_sum 14 = .ok (.aload_n 0, 1) := dk_42 (dk_at dksX6_sum_0 14 rfl rfl)
theorem dX6_sum_15 : decode cX6_sum 15 = .ok (.getfield 60, 3) := dk_180 0 60 (dk_at dksX6_sum_0 15 rfl rfl)
theorem dX6_sum_18 : decode cX6_sum 18 = .ok (.bipush 45, 2) := dk_16 45 (dk_at dksX6_sum_0 18 rfl rfl)
theorem dX6_sum_20 : decode cX6_sum 20 = .ok (.if_icmp .ne 29, 3) := dk_160 0 29 (dk_at dksX6_sum_0 20 rfl rfl)
theorem dX6_sum_23 : decode cX6_sum 23 = .ok (.aload_n 0, 1) := dk_42 (dk_at dksX6_sum_0 23 rfl rfl)
theorem dX6_sum_24 : decode cX6_sum 24 = .ok (.getfield 60, 3) := dk_180 0 60 (dk_at dksX6_sum_1 0 rfl rfl)
theorem dX6_sum_27 : decode cX6_sum 27 = .ok (.istore_n 2, 1) := dk_61 (dk_at dksX6_sum_1 3 rfl rfl)
theorem dX6_sum_28 : decode cX6_sum 28 = .ok (.aload_n 0, 1) := dk_42 (dk_at dksX6_sum_1 4 rfl rfl)
theorem dX6_sum_29 : decode cX6_sum 29 = .ok (.invokevirtual 92, 3) := dk_182 0 92 (dk_at dksX6_sum_1 5 rfl rfl)
theorem dX6_sum_32 : decode cX6_sum 32 = .ok (.new 182, 3) := dk_187 0 182 (dk_at dksX6_sum_1 8 rfl rfl)
theorem dX6_sum_35 : decode cX6_sum 35 = .ok (.dup, 1) := dk_89 (dk_at dksX6_sum_1 11 rfl rfl)
theorem dX6_sum_36 : decode cX6_sum 36 = .ok (.iload_n 2, 1) := dk_28 (dk_at dksX6_sum_1 12 rfl rfl)
theorem dX6_sum_37 : decode cX6_sum 37 = .ok (.aload_n 1, 1) := dk_43 (dk_at dksX6_sum_1 13 rfl rfl)
theorem dX6_sum_38 : decode cX6_sum 38 = .ok (.aload_n 0, 1) := dk_42 (dk_at dksX6_sum_1 14 rfl rfl)
theorem dX6_sum_39 : decode cX6_sum 39 = .ok (.invokevirtual 179, 3) := dk_182 0 179 (dk_at dksX6_sum_1 15 rfl rfl)
theorem dX6_sum_42 : decode cX6_sum 42 = .ok (.invokespecial 184, 3) := dk_183 0 184 (dk_at dksX6_sum_1 18 rfl rfl)
theorem dX6_sum_45 : decode cX6_sum 45 = .ok (.astore_n 1, 1) := dk_76 (dk_at dksX6_sum_1 21 rfl rfl)
theorem dX6_sum_46 : decode cX6_sum 46 = .ok (.goto (-41), 3) := dk_167 255 215 (dk_at dksX6_sum_2 0 rfl rfl)
theorem dX6_sum_49 : decode cX6_sum 49 = .ok (.aload_n 1, 1) := dk_43 (dk_at dksX6_sum_2 3 rfl rfl)
theorem dX6_sum_50 : decode cX6_sum 50 = .ok (.areturn, 1) := dk_176 (dk_at dksX6_sum_2 4 rfl rfl)
abbrev cX6_product : ByteArray := prog_14_method_21_code
def yX6_product : MethodName := ⟨RX6, "product", "()LSpoonScales$Sum;"⟩
def dkwX6_product_2 : List UInt8 := [167, 255, 215, 43, 176]
abbrev dktX6_product_2 : List UInt8 := dkwX6_product_2 ++ []
def dkwX6_product_1 : List UInt8 := [180, 0, 60, 61, 42, 182, 0, 92, 187, 0, 182, 89, 28, 43, 42, 182, 0, 185, 183, 0, 184, 76]
abbrev dktX6_product_1 : List UInt8 := dkwX6_product_1 ++ dktX6_product_2
def dkwX6_product_0 : List UInt8 := [42, 182, 0, 185, 76, 42, 180, 0, 60, 16, 42, 159, 0, 12, 42, 180, 0, 60, 16, 47, 160, 0, 29, 42]
abbrev dktX6_product_0 : List UInt8 := dkwX6_product_0 ++ dktX6_product_1
theorem dksX6_product_0 : cX6_product.data.toList.drop 0 = dktX6_product_0 := by decide +kernel
theorem dksX6_product_1 : cX6_product.data.toList.drop 24 = dktX6_product_1 := dk_seg dksX6_product_0 24 rfl rfl
theorem dksX6_product_2 : cX6_product.data.toList.drop 46 = dktX6_product_2 := dk_seg dksX6_product_1 22 rfl rfl
theorem dX6_product_0 : decode cX6_product 0 = .ok (.aload_n 0, 1) := dk_42 (dk_at dksX6_product_0 0 rfl rfl)
theorem dX6_product_1 : decode cX6_product 1 = .ok (.invokevirtual 185, 3) := dk_182 0 185 (dk_at dksX6_product_0 1 rfl rfl)
theorem dX6_product_4 : decode cX6_product 4 = .ok (.astore_n 1, 1) := dk_76 (dk_at dksX6_product_0 4 rfl rfl)
theorem dX6_product_5 : decode cX6_product 5 = .ok (.aload_n 0, 1) := dk_42 (dk_at dksX6_product_0 5 rfl rfl)
theorem dX6_product_6 : decode cX6_product 6 = .ok (.getfield 60, 3) := dk_180 0 60 (dk_at dksX6_product_0 6 rfl rfl)
theorem dX6_product_9 : decode cX6_product 9 = .ok (.bipush 42, 2) := dk_16 42 (dk_at dksX6_product_0 9 rfl rfl)
theorem dX6_product_11 : decode cX6_product 11 = .ok (.if_icmp .eq 12, 3) := dk_159 0 12 (dk_at dksX6_product_0 11 rfl rfl)
theorem dX6_product_14 : decode cX6_product 14 = .ok (.aload_n 0, 1) := dk_42 (dk_at dksX6_product_0 14 rfl rfl)
theorem dX6_product_15 : decode cX6_product 15 = .ok (.getfield 60, 3) := dk_180 0 60 (dk_at dksX6_product_0 15 rfl rfl)
theorem dX6_product_18 : decode cX6_product 18 = .ok (.bipush 47, 2) := dk_16 47 (dk_at dksX6_product_0 18 rfl rfl)
theorem dX6_product_20 : decode cX6_product 20 = .ok (.if_icmp .ne 29, 3) := dk_160 0 29 (dk_at dksX6_product_0 20 rfl rfl)
theorem dX6_product_23 : decode cX6_product 23 = .ok (.aload_n 0, 1) := dk_42 (dk_at dksX6_product_0 23 rfl rfl)
theorem dX6_product_24 : decode cX6_product 24 = .ok (.getfield 60, 3) := dk_180 0 60 (dk_at dksX6_product_1 0 rfl rfl)
theorem dX6_product_27 : decode cX6_product 27 = .ok (.istore_n 2, 1) := dk_61 (dk_at dksX6_product_1 3 rfl rfl)
theorem dX6_product_28 : decode cX6_product 28 = .ok (.aload_n 0, 1) := dk_42 (dk_at dksX6_product_1 4 rfl rfl)
theorem dX6_product_29 : decode cX6_product 29 = .ok (.invokevirtual 92, 3) := dk_182 0 92 (dk_at dksX6_product_1 5 rfl rfl)
theorem dX6_product_32 : decode cX6_product 32 = .ok (.new 182, 3) := dk_187 0 182 (dk_at dksX6_product_1 8 rfl rfl)
theorem dX6_product_35 : decode cX6_product 35 = .ok (.dup, 1) := dk_89 (dk_at dksX6_product_1 11 rfl rfl)
theorem dX6_product_36 : decode cX6_product 36 = .ok (.iload_n 2, 1) := dk_28 (dk_at dksX6_product_1 12 rfl rfl)
theorem dX6_product_37 : decode cX6_product 37 = .ok (.aload_n 1, 1) := dk_43 (dk_at dksX6_product_1 13 rfl rfl)
theorem dX6_product_38 : decode cX6_product 38 = .ok (.aload_n 0, 1) := dk_42 (dk_at dksX6_product_1 14 rfl rfl)
theorem dX6_product_39 : decode cX6_product 39 = .ok (.invokevirtual 185, 3) := dk_182 0 185 (dk_at dksX6_product_1 15 rfl rfl)
theorem dX6_product_42 : decode cX6_product 42 = .ok (.invokespecial 184, 3) := dk_183 0 184 (dk_at dksX6_product_1 18 rfl rfl)
theorem dX6_product_45 : decode cX6_product 45 = .ok (.astore_n 1, 1) := dk_76 (dk_at dksX6_product_1 21 rfl rfl)
theorem dX6_product_46 : decode cX6_product 46 = .ok (.goto (-41), 3) := dk_167 255 215 (dk_at dksX6_product_2 0 rfl rfl)
theorem dX6_product_49 : decode cX6_product 49 = .ok (.aload_n 1, 1) := dk_43 (dk_at dksX6_product_2 3 rfl rfl)
theorem dX6_product_50 : decode cX6_product 50 = .ok (.areturn, 1) := dk_176 (dk_at dksX6_product_2 4 rfl rfl)
abbrev cX6_one : ByteArray := prog_14_method_22_code
def yX6_one : MethodName := ⟨RX6, "one", "()LSpoonScales$Sum;"⟩
def dkwX6_one_6 : List UInt8 := [42, 4, 182, 0, 88, 191]
abbrev dktX6_one_6 : List UInt8 := dkwX6_one_6 ++ []
def dkwX6_one_5 : List UInt8 := [187, 0, 197, 89, 42, 182, 0, 185, 183, 0, 199, 76, 42, 89, 180, 0, 95, 4, 100, 181, 0, 95, 43, 176]
abbrev dktX6_one_5 : List UInt8 := dkwX6_one_5 ++ dktX6_one_6
def dkwX6_one_4 : List UInt8 := [76, 42, 16, 41, 182, 0, 131, 42, 89, 180, 0, 95, 4, 100, 181, 0, 95, 43, 176, 42, 182, 0, 163]
abbrev dktX6_one_4 : List UInt8 := dkwX6_one_4 ++ dktX6_one_5
def dkwX6_one_3 : List UInt8 := [187, 0, 194, 89, 42, 3, 17, 39, 15, 182, 0, 138, 183, 0, 196, 176, 42, 182, 0, 163, 42, 182, 0, 115]
abbrev dktX6_one_3 : List UInt8 := dkwX6_one_3 ++ dktX6_one_4
def dkwX6_one_2 : List UInt8 := [171, 0, 0, 0, 0, 105, 0, 0, 0, 3, 0, 0, 0, 40, 0, 0, 0, 50, 0, 0, 0, 45, 0, 0, 0, 77, 0, 0, 1, 45, 0, 0, 0, 34]
abbrev dktX6_one_2 : List UInt8 := dkwX6_one_2 ++ dktX6_one_3
def dkwX6_one_1 : List UInt8 := [187, 0, 191, 89, 42, 180, 0, 57, 183, 0, 193, 76, 42, 182, 0, 92, 43, 176, 42, 180, 0, 60]
abbrev dktX6_one_1 : List UInt8 := dkwX6_one_1 ++ dktX6_one_2
def dkwX6_one_0 : List UInt8 := [42, 180, 0, 57, 155, 0, 38, 42, 42, 180, 0, 57, 182, 0, 188, 154, 0, 9, 42, 8, 182, 0, 88, 191]
abbrev dktX6_one_0 : List UInt8 := dkwX6_one_0 ++ dktX6_one_1
theorem dksX6_one_0 : cX6_one.data.toList.drop 0 = dktX6_one_0 := by decide +kernel
theorem dksX6_one_1 : cX6_one.data.toList.drop 24 = dktX6_one_1 := dk_seg dksX6_one_0 24 rfl rfl
theorem dksX6_one_2 : cX6_one.data.toList.drop 46 = dktX6_one_2 := dk_seg dksX6_one_1 22 rfl rfl
theorem dksX6_one_3 : cX6_one.data.toList.drop 80 = dktX6_one_3 := dk_seg dksX6_one_2 34 rfl rfl
theorem dksX6_one_4 : cX6_one.data.toList.drop 104 = dktX6_one_4 := dk_seg dksX6_one_3 24 rfl rfl
theorem dksX6_one_5 : cX6_one.data.toList.drop 127 = dktX6_one_5 := dk_seg dksX6_one_4 23 rfl rfl
theorem dksX6_one_6 : cX6_one.data.toList.drop 151 = dktX6_one_6 := dk_seg dksX6_one_5 24 rfl rfl
theorem dX6_one_0 : decode cX6_one 0 = .ok (.aload_n 0, 1) := dk_42 (dk_at dksX6_one_0 0 rfl rfl)
theorem dX6_one_1 : decode cX6_one 1 = .ok (.getfield 57, 3) := dk_180 0 57 (dk_at dksX6_one_0 1 rfl rfl)
theorem dX6_one_4 : decode cX6_one 4 = .ok (.ifCond .lt 38, 3) := dk_155 0 38 (dk_at dksX6_one_0 4 rfl rfl)
theorem dX6_one_7 : decode cX6_one 7 = .ok (.aload_n 0, 1) := dk_42 (dk_at dksX6_one_0 7 rfl rfl)
theorem dX6_one_8 : decode cX6_one 8 = .ok (.aload_n 0, 1) := dk_42 (dk_at dksX6_one_0 8 rfl rfl)
theorem dX6_one_9 : decode cX6_one 9 = .ok (.getfield 57, 3) := dk_180 0 57 (dk_at dksX6_one_0 9 rfl rfl)
theorem dX6_one_12 : decode cX6_one 12 = .ok (.invokevirtual 188, 3) := dk_182 0 188 (dk_at dksX6_one_0 12 rfl rfl)
theorem dX6_one_15 : decode cX6_one 15 = .ok (.ifCond .ne 9, 3) := dk_154 0 9 (dk_at dksX6_one_0 15 rfl rfl)
theorem dX6_one_18 : decode cX6_one 18 = .ok (.aload_n 0, 1) := dk_42 (dk_at dksX6_one_0 18 rfl rfl)
theorem dX6_one_19 : decode cX6_one 19 = .ok (.iconst 5, 1) := dk_8 (dk_at dksX6_one_0 19 rfl rfl)
theorem dX6_one_20 : decode cX6_one 20 = .ok (.invokevirtual 88, 3) := dk_182 0 88 (dk_at dksX6_one_0 20 rfl rfl)
theorem dX6_one_23 : decode cX6_one 23 = .ok (.athrow, 1) := dk_191 (dk_at dksX6_one_0 23 rfl rfl)
theorem dX6_one_24 : decode cX6_one 24 = .ok (.new 191, 3) := dk_187 0 191 (dk_at dksX6_one_1 0 rfl rfl)
theorem dX6_one_27 : decode cX6_one 27 = .ok (.dup, 1) := dk_89 (dk_at dksX6_one_1 3 rfl rfl)
theorem dX6_one_28 : decode cX6_one 28 = .ok (.aload_n 0, 1) := dk_42 (dk_at dksX6_one_1 4 rfl rfl)
theorem dX6_one_29 : decode cX6_one 29 = .ok (.getfield 57, 3) := dk_180 0 57 (dk_at dksX6_one_1 5 rfl rfl)
theorem dX6_one_32 : decode cX6_one 32 = .ok (.invokespecial 193, 3) := dk_183 0 193 (dk_at dksX6_one_1 8 rfl rfl)
theorem dX6_one_35 : decode cX6_one 35 = .ok (.astore_n 1, 1) := dk_76 (dk_at dksX6_one_1 11 rfl rfl)
theorem dX6_one_36 : decode cX6_one 36 = .ok (.aload_n 0, 1) := dk_42 (dk_at dksX6_one_1 12 rfl rfl)
theorem dX6_one_37 : decode cX6_one 37 = .ok (.invokevirtual 92, 3) := dk_182 0 92 (dk_at dksX6_one_1 13 rfl rfl)
theorem dX6_one_40 : decode cX6_one 40 = .ok (.aload_n 1, 1) := dk_43 (dk_at dksX6_one_1 16 rfl rfl)
theorem dX6_one_41 : decode cX6_one 41 = .ok (.areturn, 1) := dk_176 (dk_at dksX6_one_1 17 rfl rfl)
theorem dX6_one_42 : decode cX6_one 42 = .ok (.aload_n 0, 1) := dk_42 (dk_at dksX6_one_1 18 rfl rfl)
theorem dX6_one_43 : decode cX6_one 43 = .ok (.getfield 60, 3) := dk_180 0 60 (dk_at dksX6_one_1 19 rfl rfl)
theorem dX6_one_46 : decode cX6_one 46 = .ok (.lookupswitch 105 #[(40, 50), (45, 77), (301, 34)], 34) := by decide +kernel
theorem dX6_one_80 : decode cX6_one 80 = .ok (.new 194, 3) := dk_187 0 194 (dk_at dksX6_one_3 0 rfl rfl)
theorem dX6_one_83 : decode cX6_one 83 = .ok (.dup, 1) := dk_89 (dk_at dksX6_one_3 3 rfl rfl)
theorem dX6_one_84 : decode cX6_one 84 = .ok (.aload_n 0, 1) := dk_42 (dk_at dksX6_one_3 4 rfl rfl)
theorem dX6_one_85 : decode cX6_one 85 = .ok (.iconst 0, 1) := dk_3 (dk_at dksX6_one_3 5 rfl rfl)
theorem dX6_one_86 : decode cX6_one 86 = .ok (.sipush 9999, 3) := dk_17 39 15 (dk_at dksX6_one_3 6 rfl rfl)
theorem dX6_one_89 : decode cX6_one 89 = .ok (.invokevirtual 138, 3) := dk_182 0 138 (dk_at dksX6_one_3 9 rfl rfl)
theorem dX6_one_92 : decode cX6_one 92 = .ok (.invokespecial 196, 3) := dk_183 0 196 (dk_at dksX6_one_3 12 rfl rfl)
theorem dX6_one_95 : decode cX6_one 95 = .ok (.areturn, 1) := dk_176 (dk_at dksX6_one_3 15 rfl rfl)
theorem dX6_one_96 : decode cX6_one 96 = .ok (.aload_n 0, 1) := dk_42 (dk_at dksX6_one_3 16 rfl rfl)
theorem dX6_one_97 : decode cX6_one 97 = .ok (.invokevirtual 163, 3) := dk_182 0 163 (dk_at dksX6_one_3 17 rfl rfl)
theorem dX6_one_100 : decode cX6_one 100 = .ok (.aload_n 0, 1) := dk_42 (dk_at dksX6_one_3 20 rfl rfl)
theorem dX6_one_101 : decode cX6_one 101 = .ok (.invokevirtual 115, 3) := dk_182 0 115 (dk_at dksX6_one_3 21 rfl rfl)
theorem dX6_one_104 : decode cX6_one 104 = .ok (.astore_n 1, 1) := dk_76 (dk_at dksX6_one_4 0 rfl rfl)
theorem dX6_one_105 : decode cX6_one 105 = .ok (.aload_n 0, 1) := dk_42 (dk_at dksX6_one_4 1 rfl rfl)
theorem dX6_one_106 : decode cX6_one 106 = .ok (.bipush 41, 2) := dk_16 41 (dk_at dksX6_one_4 2 rfl rfl)
theorem dX6_one_108 : decode cX6_one 108 = .ok (.invokevirtual 131, 3) := dk_182 0 131 (dk_at dksX6_one_4 4 rfl rfl)
theorem dX6_one_111 : decode cX6_one 111 = .ok (.aload_n 0, 1) := dk_42 (dk_at dksX6_one_4 7 rfl rfl)
theorem dX6_one_112 : decode cX6_one 112 = .ok (.dup, 1) := dk_89 (dk_at dksX6_one_4 8 rfl rfl)
theorem dX6_one_113 : decode cX6_one 113 = .ok (.getfield 95, 3) := dk_180 0 95 (dk_at dksX6_one_4 9 rfl rfl)
theorem dX6_one_116 : decode cX6_one 116 = .ok (.iconst 1, 1) := dk_4 (dk_at dksX6_one_4 12 rfl rfl)
theorem dX6_one_117 : decode cX6_one 117 = .ok (.isub, 1) := dk_100 (dk_at dksX6_one_4 13 rfl rfl)
theorem dX6_one_118 : decode cX6_one 118 = .ok (.putfield 95, 3) := dk_181 0 95 (dk_at dksX6_one_4 14 rfl rfl)
theorem dX6_one_121 : decode cX6_one 121 = .ok (.aload_n 1, 1) := dk_43 (dk_at dksX6_one_4 17 rfl rfl)
theorem dX6_one_122 : decode cX6_one 122 = .ok (.areturn, 1) := dk_176 (dk_at dksX6_one_4 18 rfl rfl)
theorem dX6_one_123 : decode cX6_one 123 = .ok (.aload_n 0, 1) := dk_42 (dk_at dksX6_one_4 19 rfl rfl)
theorem dX6_one_124 : decode cX6_one 124 = .ok (.invokevirtual 163, 3) := dk_182 0 163 (dk_at dksX6_one_4 20 rfl rfl)
theorem dX6_one_127 : decode cX6_one 127 = .ok (.new 197, 3) := dk_187 0 197 (dk_at dksX6_one_5 0 rfl rfl)
theorem dX6_one_130 : decode cX6_one 130 = .ok (.dup, 1) := dk_89 (dk_at dksX6_one_5 3 rfl rfl)
theorem dX6_one_131 : decode cX6_one 131 = .ok (.aload_n 0, 1) := dk_42 (dk_at dksX6_one_5 4 rfl rfl)
theorem dX6_one_132 : decode cX6_one 132 = .ok (.invokevirtual 185, 3) := dk_182 0 185 (dk_at dksX6_one_5 5 rfl rfl)
theorem dX6_one_135 : decode cX6_one 135 = .ok (.invokespecial 199, 3) := dk_183 0 199 (dk_at dksX6_one_5 8 rfl rfl)
theorem dX6_one_138 : decode cX6_one 138 = .ok (.astore_n 1, 1) := dk_76 (dk_at dksX6_one_5 11 rfl rfl)
theorem dX6_one_139 : decode cX6_one 139 = .ok (.aload_n 0, 1) := dk_42 (dk_at dksX6_one_5 12 rfl rfl)
theorem dX6_one_140 : decode cX6_one 140 = .ok (.dup, 1) := dk_89 (dk_at dksX6_one_5 13 rfl rfl)
theorem dX6_one_141 : decode cX6_one 141 = .ok (.getfield 95, 3) := dk_180 0 95 (dk_at dksX6_one_5 14 rfl rfl)
theorem dX6_one_144 : decode cX6_one 144 = .ok (.iconst 1, 1) := dk_4 (dk_at dksX6_one_5 17 rfl rfl)
theorem dX6_one_145 : decode cX6_one 145 = .ok (.isub, 1) := dk_100 (dk_at dksX6_one_5 18 rfl rfl)
theorem dX6_one_146 : decode cX6_one 146 = .ok (.putfield 95, 3) := dk_181 0 95 (dk_at dksX6_one_5 19 rfl rfl)
theorem dX6_one_149 : decode cX6_one 149 = .ok (.aload_n 1, 1) := dk_43 (dk_at dksX6_one_5 22 rfl rfl)
theorem dX6_one_150 : decode cX6_one 150 = .ok (.areturn, 1) := dk_176 (dk_at dksX6_one_5 23 rfl rfl)
theorem dX6_one_151 : decode cX6_one 151 = .ok (.aload_n 0, 1) := dk_42 (dk_at dksX6_one_6 0 rfl rfl)
theorem dX6_one_152 : decode cX6_one 152 = .ok (.iconst 1, 1) := dk_4 (dk_at dksX6_one_6 1 rfl rfl)
theorem dX6_one_153 : decode cX6_one 153 = .ok (.invokevirtual 88, 3) := dk_182 0 88 (dk_at dksX6_one_6 2 rfl rfl)
theorem dX6_one_156 : decode cX6_one 156 = .ok (.athrow, 1) := dk_191 (dk_at dksX6_one_6 5 rfl rfl)
abbrev cX6_isOf : ByteArray := prog_14_method_14_code
def yX6_isOf : MethodName := ⟨RX6, "isOf", "(I)Z"⟩
def dkwX6_isOf_3 : List UInt8 := [180, 0, 101, 17, 1, 56, 160, 0, 7, 4, 167, 0, 4, 3, 172]
abbrev dktX6_isOf_3 : List UInt8 := dkwX6_isOf_3 ++ []
def dkwX6_isOf_2 : List UInt8 := [160, 0, 21, 42, 180, 0, 101, 17, 1, 55, 159, 0, 7, 4, 167, 0, 22, 3, 167, 0, 18, 42]
abbrev dktX6_isOf_2 : List UInt8 := dkwX6_isOf_2 ++ dktX6_isOf_3
def dkwX6_isOf_1 : List UInt8 := [162, 0, 21, 42, 180, 0, 101, 17, 1, 54, 160, 0, 7, 4, 167, 0, 46, 3, 167, 0, 42, 27, 16, 7]
abbrev dktX6_isOf_1 : List UInt8 := dkwX6_isOf_1 ++ dktX6_isOf_2
def dkwX6_isOf_0 : List UInt8 := [27, 7, 162, 0, 19, 42, 180, 0, 101, 17, 1, 56, 159, 0, 7, 4, 167, 0, 4, 3, 172, 27, 16, 7]
abbrev dktX6_isOf_0 : List UInt8 := dkwX6_isOf_0 ++ dktX6_isOf_1
theorem dksX6_isOf_0 : cX6_isOf.data.toList.drop 0 = dktX6_isOf_0 := by decide +kernel
theorem dksX6_isOf_1 : cX6_isOf.data.toList.drop 24 = dktX6_isOf_1 := dk_seg dksX6_isOf_0 24 rfl rfl
theorem dksX6_isOf_2 : cX6_isOf.data.toList.drop 48 = dktX6_isOf_2 := dk_seg dksX6_isOf_1 24 rfl rfl
theorem dksX6_isOf_3 : cX6_isOf.data.toList.drop 70 = dktX6_isOf_3 := dk_seg dksX6_isOf_2 22 rfl rfl
theorem dX6_isOf_0 : decode cX6_isOf 0 = .ok (.iload_n 1, 1) := dk_27 (dk_at dksX6_isOf_0 0 rfl rfl)
theorem dX6_isOf_1 : decode cX6_isOf 1 = .ok (.iconst 4, 1) := dk_7 (dk_at dksX6_isOf_0 1 rfl rfl)
theorem dX6_isOf_2 : decode cX6_isOf 2 = .ok (.if_icmp .ge 19, 3) := dk_162 0 19 (dk_at dksX6_isOf_0 2 rfl rfl)
theorem dX6_isOf_5 : decode cX6_isOf 5 = .ok (.aload_n 0, 1) := dk_42 (dk_at dksX6_isOf_0 5 rfl rfl)
theorem dX6_isOf_6 : decode cX6_isOf 6 = .ok (.getfield 101, 3) := dk_180 0 101 (dk_at dksX6_isOf_0 6 rfl rfl)
theorem dX6_isOf_9 : decode cX6_isOf 9 = .ok (.sipush 312, 3) := dk_17 1 56 (dk_at dksX6_isOf_0 9 rfl rfl)
theorem dX6_isOf_12 : decode cX6_isOf 12 = .ok (.if_icmp .eq 7, 3) := dk_159 0 7 (dk_at dksX6_isOf_0 12 rfl rfl)
theorem dX6_isOf_15 : decode cX6_isOf 15 = .ok (.iconst 1, 1) := dk_4 (dk_at dksX6_isOf_0 15 rfl rfl)
theorem dX6_isOf_16 : decode cX6_isOf 16 = .ok (.goto 4, 3) := dk_167 0 4 (dk_at dksX6_isOf_0 16 rfl rfl)
theorem dX6_isOf_19 : decode cX6_isOf 19 = .ok (.iconst 0, 1) := dk_3 (dk_at dksX6_isOf_0 19 rfl rfl)
theorem dX6_isOf_20 : decode cX6_isOf 20 = .ok (.ireturn, 1) := dk_172 (dk_at dksX6_isOf_0 20 rfl rfl)
theorem dX6_isOf_21 : decode cX6_isOf 21 = .ok (.iload_n 1, 1) := dk_27 (dk_at dksX6_isOf_0 21 rfl rfl)
theorem dX6_isOf_22 : decode cX6_isOf 22 = .ok (.bipush 7, 2) := dk_16 7 (dk_at dksX6_isOf_0 22 rfl rfl)
theorem dX6_isOf_24 : decode cX6_isOf 24 = .ok (.if_icmp .ge 21, 3) := dk_162 0 21 (dk_at dksX6_isOf_1 0 rfl rfl)
theorem dX6_isOf_27 : decode cX6_isOf 27 = .ok (.aload_n 0, 1) := dk_42 (dk_at dksX6_isOf_1 3 rfl rfl)
theorem dX6_isOf_28 : decode cX6_isOf 28 = .ok (.getfield 101, 3) := dk_180 0 101 (dk_at dksX6_isOf_1 4 rfl rfl)
theorem dX6_isOf_31 : decode cX6_isOf 31 = .ok (.sipush 310, 3) := dk_17 1 54 (dk_at dksX6_isOf_1 7 rfl rfl)
theorem dX6_isOf_34 : decode cX6_isOf 34 = .ok (.if_icmp .ne 7, 3) := dk_160 0 7 (dk_at dksX6_isOf_1 10 rfl rfl)
theorem dX6_isOf_37 : decode cX6_isOf 37 = .ok (.iconst 1, 1) := dk_4 (dk_at dksX6_isOf_1 13 rfl rfl)
theorem dX6_isOf_38 : decode cX6_isOf 38 = .ok (.goto 46, 3) := dk_167 0 46 (dk_at dksX6_isOf_1 14 rfl rfl)
theorem dX6_isOf_41 : decode cX6_isOf 41 = .ok (.iconst 0, 1) := dk_3 (dk_at dksX6_isOf_1 17 rfl rfl)
theorem dX6_isOf_42 : decode cX6_isOf 42 = .ok (.goto 42, 3) := dk_167 0 42 (dk_at dksX6_isOf_1 18 rfl rfl)
theorem dX6_isOf_45 : decode cX6_isOf 45 = .ok (.iload_n 1, 1) := dk_27 (dk_at dksX6_isOf_1 21 rfl rfl)
theorem dX6_isOf_46 : decode cX6_isOf 46 = .ok (.bipush 7, 2) := dk_16 7 (dk_at dksX6_isOf_1 22 rfl rfl)
theorem dX6_isOf_48 : decode cX6_isOf 48 = .ok (.if_icmp .ne 21, 3) := dk_160 0 21 (dk_at dksX6_isOf_2 0 rfl rfl)
theorem dX6_isOf_51 : decode cX6_isOf 51 = .ok (.aload_n 0, 1) := dk_42 (dk_at dksX6_isOf_2 3 rfl rfl)
theorem dX6_isOf_52 : decode cX6_isOf 52 = .ok (.getfield 101, 3) := dk_180 0 101 (dk_at dksX6_isOf_2 4 rfl rfl)
theorem dX6_isOf_55 : decode cX6_isOf 55 = .ok (.sipush 311, 3) := dk_17 1 55 (dk_at dksX6_isOf_2 7 rfl rfl)
theorem dX6_isOf_58 : decode cX6_isOf 58 = .ok (.if_icmp .eq 7, 3) := dk_159 0 7 (dk_at dksX6_isOf_2 10 rfl rfl)
theorem dX6_isOf_61 : decode cX6_isOf 61 = .ok (.iconst 1, 1) := dk_4 (dk_at dksX6_isOf_2 13 rfl rfl)
theorem dX6_isOf_62 : decode cX6_isOf 62 = .ok (.goto 22, 3) := dk_167 0 22 (dk_at dksX6_isOf_2 14 rfl rfl)
theorem dX6_isOf_65 : decode cX6_isOf 65 = .ok (.iconst 0, 1) := dk_3 (dk_at dksX6_isOf_2 17 rfl rfl)
theorem dX6_isOf_66 : decode cX6_isOf 66 = .ok (.goto 18, 3) := dk_167 0 18 (dk_at dksX6_isOf_2 18 rfl rfl)
theorem dX6_isOf_69 : decode cX6_isOf 69 = .ok (.aload_n 0, 1) := dk_42 (dk_at dksX6_isOf_2 21 rfl rfl)
theorem dX6_isOf_70 : decode cX6_isOf 70 = .ok (.getfield 101, 3) := dk_180 0 101 (dk_at dksX6_isOf_3 0 rfl rfl)
theorem dX6_isOf_73 : decode cX6_isOf 73 = .ok (.sipush 312, 3) := dk_17 1 56 (dk_at dksX6_isOf_3 3 rfl rfl)
theorem dX6_isOf_76 : decode cX6_isOf 76 = .ok (.if_icmp .ne 7, 3) := dk_160 0 7 (dk_at dksX6_isOf_3 6 rfl rfl)
theorem dX6_isOf_79 : decode cX6_isOf 79 = .ok (.iconst 1, 1) := dk_4 (dk_at dksX6_isOf_3 9 rfl rfl)
theorem dX6_isOf_80 : decode cX6_isOf 80 = .ok (.goto 4, 3) := dk_167 0 4 (dk_at dksX6_isOf_3 10 rfl rfl)
theorem dX6_isOf_83 : decode cX6_isOf 83 = .ok (.iconst 0, 1) := dk_3 (dk_at dksX6_isOf_3 13 rfl rfl)
theorem dX6_isOf_84 : decode cX6_isOf 84 = .ok (.ireturn, 1) := dk_172 (dk_at dksX6_isOf_3 14 rfl rfl)
abbrev cX6_number : ByteArray := prog_14_method_12_code
def yX6_number : MethodName := ⟨RX6, "number", "(II)I"⟩
def dkwX6_number_1 : List UInt8 := [184, 0, 26, 154, 0, 9, 42, 5, 182, 0, 88, 191, 42, 180, 0, 69, 62, 42, 182, 0, 92, 29, 172]
abbrev dktX6_number_1 : List UInt8 := dkwX6_number_1 ++ []
def dkwX6_number_0 : List UInt8 := [42, 180, 0, 60, 17, 1, 45, 159, 0, 9, 42, 4, 182, 0, 88, 191, 42, 180, 0, 69, 27, 28]
abbrev dktX6_number_0 : List UInt8 := dkwX6_number_0 ++ dktX6_number_1
theorem dksX6_number_0 : cX6_number.data.toList.drop 0 = dktX6_number_0 := by decide +kernel
theorem dksX6_number_1 : cX6_number.data.toList.drop 22 = dktX6_number_1 := dk_seg dksX6_number_0 22 rfl rfl
theorem dX6_number_0 : decode cX6_number 0 = .ok (.aload_n 0, 1) := dk_42 (dk_at dksX6_number_0 0 rfl rfl)
theorem dX6_number_1 : decode cX6_number 1 = .ok (.getfield 60, 3) := dk_180 0 60 (dk_at dksX6_number_0 1 rfl rfl)
theorem dX6_number_4 : decode cX6_number 4 = .ok (.sipush 301, 3) := dk_17 1 45 (dk_at dksX6_number_0 4 rfl rfl)
theorem dX6_number_7 : decode cX6_number 7 = .ok (.if_icmp .eq 9, 3) := dk_159 0 9 (dk_at dksX6_number_0 7 rfl rfl)
theorem dX6_number_10 : decode cX6_number 10 = .ok (.aload_n 0, 1) := dk_42 (dk_at dksX6_number_0 10 rfl rfl)
theorem dX6_number_11 : decode cX6_number 11 = .ok (.iconst 1, 1) := dk_4 (dk_at dksX6_number_0 11 rfl rfl)
theorem dX6_number_12 : decode cX6_number 12 = .ok (.invokevirtual 88, 3) := dk_182 0 88 (dk_at dksX6_number_0 12 rfl rfl)
theorem dX6_number_15 : decode cX6_number 15 = .ok (.athrow, 1) := dk_191 (dk_at dksX6_number_0 15 rfl rfl)
theorem dX6_number_16 : decode cX6_number 16 = .ok (.aload_n 0, 1) := dk_42 (dk_at dksX6_number_0 16 rfl rfl)
theorem dX6_number_17 : decode cX6_number 17 = .ok (.getfield 69, 3) := dk_180 0 69 (dk_at dksX6_number_0 17 rfl rfl)
theorem dX6_number_20 : decode cX6_number 20 = .ok (.iload_n 1, 1) := dk_27 (dk_at dksX6_number_0 20 rfl rfl)
theorem dX6_number_21 : decode cX6_number 21 = .ok (.iload_n 2, 1) := dk_28 (dk_at dksX6_number_0 21 rfl rfl)
theorem dX6_number_22 : decode cX6_number 22 = .ok (.invokestatic 26, 3) := dk_184 0 26 (dk_at dksX6_number_1 0 rfl rfl)
theorem dX6_number_25 : decode cX6_number 25 = .ok (.ifCond .ne 9, 3) := dk_154 0 9 (dk_at dksX6_number_1 3 rfl rfl)
theorem dX6_number_28 : decode cX6_number 28 = .ok (.aload_n 0, 1) := dk_42 (dk_at dksX6_number_1 6 rfl rfl)
theorem dX6_number_29 : decode cX6_number 29 = .ok (.iconst 2, 1) := dk_5 (dk_at dksX6_number_1 7 rfl rfl)
theorem dX6_number_30 : decode cX6_number 30 = .ok (.invokevirtual 88, 3) := dk_182 0 88 (dk_at dksX6_number_1 8 rfl rfl)
theorem dX6_number_33 : decode cX6_number 33 = .ok (.athrow, 1) := dk_191 (dk_at dksX6_number_1 11 rfl rfl)
theorem dX6_number_34 : decode cX6_number 34 = .ok (.aload_n 0, 1) := dk_42 (dk_at dksX6_number_1 12 rfl rfl)
theorem dX6_number_35 : decode cX6_number 35 = .ok (.getfield 69, 3) := dk_180 0 69 (dk_at dksX6_number_1 13 rfl rfl)
theorem dX6_number_38 : decode cX6_number 38 = .ok (.istore_n 3, 1) := dk_62 (dk_at dksX6_number_1 16 rfl rfl)
theorem dX6_number_39 : decode cX6_number 39 = .ok (.aload_n 0, 1) := dk_42 (dk_at dksX6_number_1 17 rfl rfl)
theorem dX6_number_40 : decode cX6_number 40 = .ok (.invokevirtual 92, 3) := dk_182 0 92 (dk_at dksX6_number_1 18 rfl rfl)
theorem dX6_number_43 : decode cX6_number 43 = .ok (.iload_n 3, 1) := dk_29 (dk_at dksX6_number_1 21 rfl rfl)
theorem dX6_number_44 : decode cX6_number 44 = .ok (.ireturn, 1) := dk_172 (dk_at dksX6_number_1 22 rfl rfl)
abbrev cX6_opens : ByteArray := prog_14_method_11_code
def yX6_opens : MethodName := ⟨RX6, "opens", "()V"⟩
def dkwX6_opens_1 : List UInt8 := [181, 0, 95, 42, 182, 0, 92, 177]
abbrev dktX6_opens_1 : List UInt8 := dkwX6_opens_1 ++ []
def dkwX6_opens_0 : List UInt8 := [42, 180, 0, 95, 16, 8, 160, 0, 9, 42, 6, 182, 0, 88, 191, 42, 89, 180, 0, 95, 4, 96]
abbrev dktX6_opens_0 : List UInt8 := dkwX6_opens_0 ++ dktX6_opens_1
theorem dksX6_opens_0 : cX6_opens.data.toList.drop 0 = dktX6_opens_0 := by decide +kernel
theorem dksX6_opens_1 : cX6_opens.data.toList.drop 22 = dktX6_opens_1 := dk_seg dksX6_opens_0 22 rfl rfl
theorem dX6_opens_0 : decode cX6_opens 0 = .ok (.aload_n 0, 1) := dk_42 (dk_at dksX6_opens_0 0 rfl rfl)
theorem dX6_opens_1 : decode cX6_opens 1 = .ok (.getfield 95, 3) := dk_180 0 95 (dk_at dksX6_opens_0 1 rfl rfl)
theorem dX6_opens_4 : decode cX6_opens 4 = .ok (.bipush 8, 2) := dk_16 8 (dk_at dksX6_opens_0 4 rfl rfl)
theorem dX6_opens_6 : decode cX6_opens 6 = .ok (.if_icmp .ne 9, 3) := dk_160 0 9 (dk_at dksX6_opens_0 6 rfl rfl)
theorem dX6_opens_9 : decode cX6_opens 9 = .ok (.aload_n 0, 1) := dk_42 (dk_at dksX6_opens_0 9 rfl rfl)
theorem dX6_opens_10 : decode cX6_opens 10 = .ok (.iconst 3, 1) := dk_6 (dk_at dksX6_opens_0 10 rfl rfl)
theorem dX6_opens_11 : decode cX6_opens 11 = .ok (.invokevirtual 88, 3) := dk_182 0 88 (dk_at dksX6_opens_0 11 rfl rfl)
theorem dX6_opens_14 : decode cX6_opens 14 = .ok (.athrow, 1) := dk_191 (dk_at dksX6_opens_0 14 rfl rfl)
theorem dX6_opens_15 : decode cX6_opens 15 = .ok (.aload_n 0, 1) := dk_42 (dk_at dksX6_opens_0 15 rfl rfl)
theorem dX6_opens_16 : decode cX6_opens 16 = .ok (.dup, 1) := dk_89 (dk_at dksX6_opens_0 16 rfl rfl)
theorem dX6_opens_17 : decode cX6_opens 17 = .ok (.getfield 95, 3) := dk_180 0 95 (dk_at dksX6_opens_0 17 rfl rfl)
theorem dX6_opens_20 : decode cX6_opens 20 = .ok (.iconst 1, 1) := dk_4 (dk_at dksX6_opens_0 20 rfl rfl)
theorem dX6_opens_21 : decode cX6_opens 21 = .ok (.iadd, 1) := dk_96 (dk_at dksX6_opens_0 21 rfl rfl)
theorem dX6_opens_22 : decode cX6_opens 22 = .ok (.putfield 95, 3) := dk_181 0 95 (dk_at dksX6_opens_1 0 rfl rfl)
theorem dX6_opens_25 : decode cX6_opens 25 = .ok (.aload_n 0, 1) := dk_42 (dk_at dksX6_opens_1 3 rfl rfl)
theorem dX6_opens_26 : decode cX6_opens 26 = .ok (.invokevirtual 92, 3) := dk_182 0 92 (dk_at dksX6_opens_1 4 rfl rfl)
theorem dX6_opens_29 : decode cX6_opens 29 = .ok (.return_, 1) := dk_177 (dk_at dksX6_opens_1 7 rfl rfl)
abbrev cX6_need : ByteArray := prog_14_method_10_code
def yX6_need : MethodName := ⟨RX6, "need", "(I)V"⟩
def dkwX6_need_0 : List UInt8 := [42, 180, 0, 60, 27, 159, 0, 9, 42, 4, 182, 0, 88, 191, 42, 182, 0, 92, 177]
abbrev dktX6_need_0 : List UInt8 := dkwX6_need_0 ++ []
theorem dksX6_need_0 : cX6_need.data.toList.drop 0 = dktX6_need_0 := by decide +kernel
theorem dX6_need_0 : decode cX6_need 0 = .ok (.aload_n 0, 1) := dk_42 (dk_at dksX6_need_0 0 rfl rfl)
theorem dX6_need_1 : decode cX6_need 1 = .ok (.getfield 60, 3) := dk_180 0 60 (dk_at dksX6_need_0 1 rfl rfl)
theorem dX6_need_4 : decode cX6_need 4 = .ok (.iload_n 1, 1) := dk_27 (dk_at dksX6_need_0 4 rfl rfl)
theorem dX6_need_5 : decode cX6_need 5 = .ok (.if_icmp .eq 9, 3) := dk_159 0 9 (dk_at dksX6_need_0 5 rfl rfl)
theorem dX6_need_8 : decode cX6_need 8 = .ok (.aload_n 0, 1) := dk_42 (dk_at dksX6_need_0 8 rfl rfl)
theorem dX6_need_9 : decode cX6_need 9 = .ok (.iconst 1, 1) := dk_4 (dk_at dksX6_need_0 9 rfl rfl)
theorem dX6_need_10 : decode cX6_need 10 = .ok (.invokevirtual 88, 3) := dk_182 0 88 (dk_at dksX6_need_0 10 rfl rfl)
theorem dX6_need_13 : decode cX6_need 13 = .ok (.athrow, 1) := dk_191 (dk_at dksX6_need_0 13 rfl rfl)
theorem dX6_need_14 : decode cX6_need 14 = .ok (.aload_n 0, 1) := dk_42 (dk_at dksX6_need_0 14 rfl rfl)
theorem dX6_need_15 : decode cX6_need 15 = .ok (.invokevirtual 92, 3) := dk_182 0 92 (dk_at dksX6_need_0 15 rfl rfl)
theorem dX6_need_18 : decode cX6_need 18 = .ok (.return_, 1) := dk_177 (dk_at dksX6_need_0 18 rfl rfl)
abbrev cX6_either : ByteArray := prog_14_method_16_code
def yX6_either : MethodName := ⟨RX6, "either", "()LSpoonScales$Ask;"⟩
def dkwX6_either_1 : List UInt8 := [43, 42, 182, 0, 152, 183, 0, 157, 76, 167, 255, 228, 43, 176]
abbrev dktX6_either_1 : List UInt8 := dkwX6_either_1 ++ []
def dkwX6_either_0 : List UInt8 := [42, 182, 0, 152, 76, 42, 180, 0, 60, 17, 1, 61, 160, 0, 24, 42, 182, 0, 92, 187, 0, 155, 89, 4]
abbrev dktX6_either_0 : List UInt8 := dkwX6_either_0 ++ dktX6_either_1
theorem dksX6_either_0 : cX6_either.data.toList.drop 0 = dktX6_either_0 := by decide +kernel
theorem dksX6_either_1 : cX6_either.data.toList.drop 24 = dktX6_either_1 := dk_seg dksX6_either_0 24 rfl rfl
theorem dX6_either_0 : decode cX6_either 0 = .ok (.aload_n 0, 1) := dk_42 (dk_at dksX6_either_0 0 rfl rfl)
theorem dX6_either_1 : decode cX6_either 1 = .ok (.invokevirtual 152, 3) := dk_182 0 152 (dk_at dksX6_either_0 1 rfl rfl)
theorem dX6_either_4 : decode cX6_either 4 = .ok (.astore_n 1, 1) := dk_76 (dk_at dksX6_either_0 4 rfl rfl)
theorem dX6_either_5 : decode cX6_either 5 = .ok (.aload_n 0, 1) := dk_42 (dk_at dksX6_either_0 5 rfl rfl)
theorem dX6_either_6 : decode cX6_either 6 = .ok (.getfield 60, 3) := dk_180 0 60 (dk_at dksX6_either_0 6 rfl rfl)
theorem dX6_either_9 : decode cX6_either 9 = .ok (.sipush 317, 3) := dk_17 1 61 (dk_at dksX6_either_0 9 rfl rfl)
theorem dX6_either_12 : decode cX6_either 12 = .ok (.if_icmp .ne 24, 3) := dk_160 0 24 (dk_at dksX6_either_0 12 rfl rfl)
theorem dX6_either_15 : decode cX6_either 15 = .ok (.aload_n 0, 1) := dk_42 (dk_at dksX6_either_0 15 rfl rfl)
theorem dX6_either_16 : decode cX6_either 16 = .ok (.invokevirtual 92, 3) := dk_182 0 92 (dk_at dksX6_either_0 16 rfl rfl)
theorem dX6_either_19 : decode cX6_either 19 = .ok (.new 155, 3) := dk_187 0 155 (dk_at dksX6_either_0 19 rfl rfl)
theorem dX6_either_22 : decode cX6_either 22 = .ok (.dup, 1) := dk_89 (dk_at dksX6_either_0 22 rfl rfl)
theorem dX6_either_23 : decode cX6_either 23 = .ok (.iconst 1, 1) := dk_4 (dk_at dksX6_either_0 23 rfl rfl)
theorem dX6_either_24 : decode cX6_either 24 = .ok (.aload_n 1, 1) := dk_43 (dk_at dksX6_either_1 0 rfl rfl)
theorem dX6_either_25 : decode cX6_either 25 = .ok (.aload_n 0, 1) := dk_42 (dk_at dksX6_either_1 1 rfl rfl)
theorem dX6_either_26 : decode cX6_either 26 = .ok (.invokevirtual 152, 3) := dk_182 0 152 (dk_at dksX6_either_1 2 rfl rfl)
theorem dX6_either_29 : decode cX6_either 29 = .ok (.invokespecial 157, 3) := dk_183 0 157 (dk_at dksX6_either_1 5 rfl rfl)
theorem dX6_either_32 : decode cX6_either 32 = .ok (.astore_n 1, 1) := dk_76 (dk_at dksX6_either_1 8 rfl rfl)
theorem dX6_either_33 : decode cX6_either 33 = .ok (.goto (-28), 3) := dk_167 255 228 (dk_at dksX6_either_1 9 rfl rfl)
theorem dX6_either_36 : decode cX6_either 36 = .ok (.aload_n 1, 1) := dk_43 (dk_at dksX6_either_1 12 rfl rfl)
theorem dX6_either_37 : decode cX6_either 37 = .ok (.areturn, 1) := dk_176 (dk_at dksX6_either_1 13 rfl rfl)
abbrev cX6_both : ByteArray := prog_14_method_17_code
def yX6_both : MethodName := ⟨RX6, "both", "()LSpoonScales$Ask;"⟩
def dkwX6_both_1 : List UInt8 := [43, 42, 182, 0, 160, 183, 0, 157, 76, 167, 255, 228, 43, 176]
abbrev dktX6_both_1 : List UInt8 := dkwX6_both_1 ++ []
def dkwX6_both_0 : List UInt8 := [42, 182, 0, 160, 76, 42, 180, 0, 60, 17, 1, 62, 160, 0, 24, 42, 182, 0, 92, 187, 0, 155, 89, 3]
abbrev dktX6_both_0 : List UInt8 := dkwX6_both_0 ++ dktX6_both_1
theorem dksX6_both_0 : cX6_both.data.toList.drop 0 = dktX6_both_0 := by decide +kernel
theorem dksX6_both_1 : cX6_both.data.toList.drop 24 = dktX6_both_1 := dk_seg dksX6_both_0 24 rfl rfl
theorem dX6_both_0 : decode cX6_both 0 = .ok (.aload_n 0, 1) := dk_42 (dk_at dksX6_both_0 0 rfl rfl)
theorem dX6_both_1 : decode cX6_both 1 = .ok (.invokevirtual 160, 3) := dk_182 0 160 (dk_at dksX6_both_0 1 rfl rfl)
theorem dX6_both_4 : decode cX6_both 4 = .ok (.astore_n 1, 1) := dk_76 (dk_at dksX6_both_0 4 rfl rfl)
theorem dX6_both_5 : decode cX6_both 5 = .ok (.aload_n 0, 1) := dk_42 (dk_at dksX6_both_0 5 rfl rfl)
theorem dX6_both_6 : decode cX6_both 6 = .ok (.getfield 60, 3) := dk_180 0 60 (dk_at dksX6_both_0 6 rfl rfl)
theorem dX6_both_9 : decode cX6_both 9 = .ok (.sipush 318, 3) := dk_17 1 62 (dk_at dksX6_both_0 9 rfl rfl)
theorem dX6_both_12 : decode cX6_both 12 = .ok (.if_icmp .ne 24, 3) := dk_160 0 24 (dk_at dksX6_both_0 12 rfl rfl)
theorem dX6_both_15 : decode cX6_both 15 = .ok (.aload_n 0, 1) := dk_42 (dk_at dksX6_both_0 15 rfl rfl)
theorem dX6_both_16 : decode cX6_both 16 = .ok (.invokevirtual 92, 3) := dk_182 0 92 (dk_at dksX6_both_0 16 rfl rfl)
theorem dX6_both_19 : decode cX6_both 19 = .ok (.new 155, 3) := dk_187 0 155 (dk_at dksX6_both_0 19 rfl rfl)
theorem dX6_both_22 : decode cX6_both 22 = .ok (.dup, 1) := dk_89 (dk_at dksX6_both_0 22 rfl rfl)
theorem dX6_both_23 : decode cX6_both 23 = .ok (.iconst 0, 1) := dk_3 (dk_at dksX6_both_0 23 rfl rfl)
theorem dX6_both_24 : decode cX6_both 24 = .ok (.aload_n 1, 1) := dk_43 (dk_at dksX6_both_1 0 rfl rfl)
theorem dX6_both_25 : decode cX6_both 25 = .ok (.aload_n 0, 1) := dk_42 (dk_at dksX6_both_1 1 rfl rfl)
theorem dX6_both_26 : decode cX6_both 26 = .ok (.invokevirtual 160, 3) := dk_182 0 160 (dk_at dksX6_both_1 2 rfl rfl)
theorem dX6_both_29 : decode cX6_both 29 = .ok (.invokespecial 157, 3) := dk_183 0 157 (dk_at dksX6_both_1 5 rfl rfl)
theorem dX6_both_32 : decode cX6_both 32 = .ok (.astore_n 1, 1) := dk_76 (dk_at dksX6_both_1 8 rfl rfl)
theorem dX6_both_33 : decode cX6_both 33 = .ok (.goto (-28), 3) := dk_167 255 228 (dk_at dksX6_both_1 9 rfl rfl)
theorem dX6_both_36 : decode cX6_both 36 = .ok (.aload_n 1, 1) := dk_43 (dk_at dksX6_both_1 12 rfl rfl)
theorem dX6_both_37 : decode cX6_both 37 = .ok (.areturn, 1) := dk_176 (dk_at dksX6_both_1 13 rfl rfl)
abbrev cX6_ask : ByteArray := prog_14_method_19_code
def yX6_ask : MethodName := ⟨RX6, "ask", "()LSpoonScales$Ask;"⟩
def dkwX6_ask_3 : List UInt8 := [89, 28, 43, 42, 182, 0, 115, 183, 0, 176, 176]
abbrev dktX6_ask_3 : List UInt8 := dkwX6_ask_3 ++ []
def dkwX6_ask_2 : List UInt8 := [182, 0, 171, 154, 0, 9, 42, 4, 182, 0, 88, 191, 42, 180, 0, 60, 61, 42, 182, 0, 92, 187, 0, 174]
abbrev dktX6_ask_2 : List UInt8 := dkwX6_ask_2 ++ dktX6_ask_3
def dkwX6_ask_1 : List UInt8 := [183, 0, 168, 76, 42, 89, 180, 0, 95, 4, 100, 181, 0, 95, 43, 176, 42, 182, 0, 115, 76, 42]
abbrev dktX6_ask_1 : List UInt8 := dkwX6_ask_1 ++ dktX6_ask_2
def dkwX6_ask_0 : List UInt8 := [42, 180, 0, 60, 17, 1, 63, 160, 0, 31, 42, 182, 0, 163, 187, 0, 166, 89, 42, 182, 0, 160]
abbrev dktX6_ask_0 : List UInt8 := dkwX6_ask_0 ++ dktX6_ask_1
theorem dksX6_ask_0 : cX6_ask.data.toList.drop 0 = dktX6_ask_0 := by decide +kernel
theorem dksX6_ask_1 : cX6_ask.data.toList.drop 22 = dktX6_ask_1 := dk_seg dksX6_ask_0 22 rfl rfl
theorem dksX6_ask_2 : cX6_ask.data.toList.drop 44 = dktX6_ask_2 := dk_seg dksX6_ask_1 22 rfl rfl
theorem dksX6_ask_3 : cX6_ask.data.toList.drop 68 = dktX6_ask_3 := dk_seg dksX6_ask_2 24 rfl rfl
theorem dX6_ask_0 : decode cX6_ask 0 = .ok (.aload_n 0, 1) := dk_42 (dk_at dksX6_ask_0 0 rfl rfl)
theorem dX6_ask_1 : decode cX6_ask 1 = .ok (.getfield 60, 3) := dk_180 0 60 (dk_at dksX6_ask_0 1 rfl rfl)
theorem dX6_ask_4 : decode cX6_ask 4 = .ok (.sipush 319, 3) := dk_17 1 63 (dk_at dksX6_ask_0 4 rfl rfl)
theorem dX6_ask_7 : decode cX6_ask 7 = .ok (.if_icmp .ne 31, 3) := dk_160 0 31 (dk_at dksX6_ask_0 7 rfl rfl)
theorem dX6_ask_10 : decode cX6_ask 10 = .ok (.aload_n 0, 1) := dk_42 (dk_at dksX6_ask_0 10 rfl rfl)
theorem dX6_ask_11 : decode cX6_ask 11 = .ok (.invokevirtual 163, 3) := dk_182 0 163 (dk_at dksX6_ask_0 11 rfl rfl)
theorem dX6_ask_14 : decode cX6_ask 14 = .ok (.new 166, 3) := dk_187 0 166 (dk_at dksX6_ask_0 14 rfl rfl)
theorem dX6_ask_17 : decode cX6_ask 17 = .ok (.dup, 1) := dk_89 (dk_at dksX6_ask_0 17 rfl rfl)
theorem dX6_ask_18 : decode cX6_ask 18 = .ok (.aload_n 0, 1) := dk_42 (dk_at dksX6_ask_0 18 rfl rfl)
theorem dX6_ask_19 : decode cX6_ask 19 = .ok (.invokevirtual 160, 3) := dk_182 0 160 (dk_at dksX6_ask_0 19 rfl rfl)
theorem dX6_ask_22 : decode cX6_ask 22 = .ok (.invokespecial 168, 3) := dk_183 0 168 (dk_at dksX6_ask_1 0 rfl rfl)
theorem dX6_ask_25 : decode cX6_ask 25 = .ok (.astore_n 1, 1) := dk_76 (dk_at dksX6_ask_1 3 rfl rfl)
theorem dX6_ask_26 : decode cX6_ask 26 = .ok (.aload_n 0, 1) := dk_42 (dk_at dksX6_ask_1 4 rfl rfl)
theorem dX6_ask_27 : decode cX6_ask 27 = .ok (.dup, 1) := dk_89 (dk_at dksX6_ask_1 5 rfl rfl)
theorem dX6_ask_28 : decode cX6_ask 28 = .ok (.getfield 95, 3) := dk_180 0 95 (dk_at dksX6_ask_1 6 rfl rfl)
theorem dX6_ask_31 : decode cX6_ask 31 = .ok (.iconst 1, 1) := dk_4 (dk_at dksX6_ask_1 9 rfl rfl)
theorem dX6_ask_32 : decode cX6_ask 32 = .ok (.isub, 1) := dk_100 (dk_at dksX6_ask_1 10 rfl rfl)
theorem dX6_ask_33 : decode cX6_ask 33 = .ok (.putfield 95, 3) := dk_181 0 95 (dk_at dksX6_ask_1 11 rfl rfl)
theorem dX6_ask_36 : decode cX6_ask 36 = .ok (.aload_n 1, 1) := dk_43 (dk_at dksX6_ask_1 14 rfl rfl)
theorem dX6_ask_37 : decode cX6_ask 37 = .ok (.areturn, 1) := dk_176 (dk_at dksX6_ask_1 15 rfl rfl)
theorem dX6_ask_38 : decode cX6_ask 38 = .ok (.aload_n 0, 1) := dk_42 (dk_at dksX6_ask_1 16 rfl rfl)
theorem dX6_ask_39 : decode cX6_ask 39 = .ok (.invokevirtual 115, 3) := dk_182 0 115 (dk_at dksX6_ask_1 17 rfl rfl)
theorem dX6_ask_42 : decode cX6_ask 42 = .ok (.astore_n 1, 1) := dk_76 (dk_at dksX6_ask_1 20 rfl rfl)
theorem dX6_ask_43 : decode cX6_ask 43 = .ok (.aload_n 0, 1) := dk_42 (dk_at dksX6_ask_1 21 rfl rfl)
theorem dX6_ask_44 : decode cX6_ask 44 = .ok (.invokevirtual 171, 3) := dk_182 0 171 (dk_at dksX6_ask_2 0 rfl rfl)
theorem dX6_ask_47 : decode cX6_ask 47 = .ok (.ifCond .ne 9, 3) := dk_154 0 9 (dk_at dksX6_ask_2 3 rfl rfl)
theorem dX6_ask_50 : decode cX6_ask 50 = .ok (.aload_n 0, 1) := dk_42 (dk_at dksX6_ask_2 6 rfl rfl)
theorem dX6_ask_51 : decode cX6_ask 51 = .ok (.iconst 1, 1) := dk_4 (dk_at dksX6_ask_2 7 rfl rfl)
theorem dX6_ask_52 : decode cX6_ask 52 = .ok (.invokevirtual 88, 3) := dk_182 0 88 (dk_at dksX6_ask_2 8 rfl rfl)
theorem dX6_ask_55 : decode cX6_ask 55 = .ok (.athrow, 1) := dk_191 (dk_at dksX6_ask_2 11 rfl rfl)
theorem dX6_ask_56 : decode cX6_ask 56 = .ok (.aload_n 0, 1) := dk_42 (dk_at dksX6_ask_2 12 rfl rfl)
theorem dX6_ask_57 : decode cX6_ask 57 = .ok (.getfield 60, 3) := dk_180 0 60 (dk_at dksX6_ask_2 13 rfl rfl)
theorem dX6_ask_60 : decode cX6_ask 60 = .ok (.istore_n 2, 1) := dk_61 (dk_at dksX6_ask_2 16 rfl rfl)
theorem dX6_ask_61 : decode cX6_ask 61 = .ok (.aload_n 0, 1) := dk_42 (dk_at dksX6_ask_2 17 rfl rfl)
theorem dX6_ask_62 : decode cX6_ask 62 = .ok (.invokevirtual 92, 3) := dk_182 0 92 (dk_at dksX6_ask_2 18 rfl rfl)
theorem dX6_ask_65 : decode cX6_ask 65 = .ok (.new 174, 3) := dk_187 0 174 (dk_at dksX6_ask_2 21 rfl rfl)
theorem dX6_ask_68 : decode cX6_ask 68 = .ok (.dup, 1) := dk_89 (dk_at dksX6_ask_3 0 rfl rfl)
theorem dX6_ask_69 : decode cX6_ask 69 = .ok (.iload_n 2, 1) := dk_28 (dk_at dksX6_ask_3 1 rfl rfl)
theorem dX6_ask_70 : decode cX6_ask 70 = .ok (.aload_n 1, 1) := dk_43 (dk_at dksX6_ask_3 2 rfl rfl)
theorem dX6_ask_71 : decode cX6_ask 71 = .ok (.aload_n 0, 1) := dk_42 (dk_at dksX6_ask_3 3 rfl rfl)
theorem dX6_ask_72 : decode cX6_ask 72 = .ok (.invokevirtual 115, 3) := dk_182 0 115 (dk_at dksX6_ask_3 4 rfl rfl)
theorem dX6_ask_75 : decode cX6_ask 75 = .ok (.invokespecial 176, 3) := dk_183 0 176 (dk_at dksX6_ask_3 7 rfl rfl)
theorem dX6_ask_78 : decode cX6_ask 78 = .ok (.areturn, 1) := dk_176 (dk_at dksX6_ask_3 10 rfl rfl)
abbrev cX6_isCompare : ByteArray := prog_14_method_18_code
def yX6_isCompare : MethodName := ⟨RX6, "isCompare", "()Z"⟩
def dkwX6_isCompare_2 : List UInt8 := [180, 0, 60, 17, 1, 49, 160, 0, 7, 4, 167, 0, 4, 3, 172]
abbrev dktX6_isCompare_2 : List UInt8 := dkwX6_isCompare_2 ++ []
def dkwX6_isCompare_1 : List UInt8 := [159, 0, 32, 42, 180, 0, 60, 16, 35, 159, 0, 23, 42, 180, 0, 60, 17, 1, 48, 159, 0, 13, 42]
abbrev dktX6_isCompare_1 : List UInt8 := dkwX6_isCompare_1 ++ dktX6_isCompare_2
def dkwX6_isCompare_0 : List UInt8 := [42, 180, 0, 60, 16, 60, 159, 0, 50, 42, 180, 0, 60, 16, 62, 159, 0, 41, 42, 180, 0, 60, 16, 61]
abbrev dktX6_isCompare_0 : List UInt8 := dkwX6_isCompare_0 ++ dktX6_isCompare_1
theorem dksX6_isCompare_0 : cX6_isCompare.data.toList.drop 0 = dktX6_isCompare_0 := by decide +kernel
theorem dksX6_isCompare_1 : cX6_isCompare.data.toList.drop 24 = dktX6_isCompare_1 := dk_seg dksX6_isCompare_0 24 rfl rfl
theorem dksX6_isCompare_2 : cX6_isCompare.data.toList.drop 47 = dktX6_isCompare_2 := dk_seg dksX6_isCompare_1 23 rfl rfl
theorem dX6_isCompare_0 : decode cX6_isCompare 0 = .ok (.aload_n 0, 1) := dk_42 (dk_at dksX6_isCompare_0 0 rfl rfl)
theorem dX6_isCompare_1 : decode cX6_isCompare 1 = .ok (.getfield 60, 3) := dk_180 0 60 (dk_at dksX6_isCompare_0 1 rfl rfl)
theorem dX6_isCompare_4 : decode cX6_isCompare 4 = .ok (.bipush 60, 2) := dk_16 60 (dk_at dksX6_isCompare_0 4 rfl rfl)
theorem dX6_isCompare_6 : decode cX6_isCompare 6 = .ok (.if_icmp .eq 50, 3) := dk_159 0 50 (dk_at dksX6_isCompare_0 6 rfl rfl)
theorem dX6_isCompare_9 : decode cX6_isCompare 9 = .ok (.aload_n 0, 1) := dk_42 (dk_at dksX6_isCompare_0 9 rfl rfl)
theorem dX6_isCompare_10 : decode cX6_isCompare 10 = .ok (.getfield 60, 3) := dk_180 0 60 (dk_at dksX6_isCompare_0 10 rfl rfl)
theorem dX6_isCompare_13 : decode cX6_isCompare 13 = .ok (.bipush 62, 2) := dk_16 62 (dk_at dksX6_isCompare_0 13 rfl rfl)
theorem dX6_isCompare_15 : decode cX6_isCompare 15 = .ok (.if_icmp .eq 41, 3) := dk_159 0 41 (dk_at dksX6_isCompare_0 15 rfl rfl)
theorem dX6_isCompare_18 : decode cX6_isCompare 18 = .ok (.aload_n 0, 1) := dk_42 (dk_at dksX6_isCompare_0 18 rfl rfl)
theorem dX6_isCompare_19 : decode cX6_isCompare 19 = .ok (.getfield 60, 3) := dk_180 0 60 (dk_at dksX6_isCompare_0 19 rfl rfl)
theorem dX6_isCompare_22 : decode cX6_isCompare 22 = .ok (.bipush 61, 2) := dk_16 61 (dk_at dksX6_isCompare_0 22 rfl rfl)
theorem dX6_isCompare_24 : decode cX6_isCompare 24 = .ok (.if_icmp .eq 32, 3) := dk_159 0 32 (dk_at dksX6_isCompare_1 0 rfl rfl)
theorem dX6_isCompare_27 : decode cX6_isCompare 27 = .ok (.aload_n 0, 1) := dk_42 (dk_at dksX6_isCompare_1 3 rfl rfl)
theorem dX6_isCompare_28 : decode cX6_isCompare 28 = .ok (.getfield 60, 3) := dk_180 0 60 (dk_at dksX6_isCompare_1 4 rfl rfl)
theorem dX6_isCompare_31 : decode cX6_isCompare 31 = .ok (.bipush 35, 2) := dk_16 35 (dk_at dksX6_isCompare_1 7 rfl rfl)
theorem dX6_isCompare_33 : decode cX6_isCompare 33 = .ok (.if_icmp .eq 23, 3) := dk_159 0 23 (dk_at dksX6_isCompare_1 9 rfl rfl)
theorem dX6_isCompare_36 : decode cX6_isCompare 36 = .ok (.aload_n 0, 1) := dk_42 (dk_at dksX6_isCompare_1 12 rfl rfl)
theorem dX6_isCompare_37 : decode cX6_isCompare 37 = .ok (.getfield 60, 3) := dk_180 0 60 (dk_at dksX6_isCompare_1 13 rfl rfl)
theorem dX6_isCompare_40 : decode cX6_isCompare 40 = .ok (.sipush 304, 3) := dk_17 1 48 (dk_at dksX6_isCompare_1 16 rfl rfl)
theorem dX6_isCompare_43 : decode cX6_isCompare 43 = .ok (.if_icmp .eq 13, 3) := dk_159 0 13 (dk_at dksX6_isCompare_1 19 rfl rfl)
theorem dX6_isCompare_46 : decode cX6_isCompare 46 = .ok (.aload_n 0, 1) := dk_42 (dk_at dksX6_isCompare_1 22 rfl rfl)
theorem dX6_isCompare_47 : decode cX6_isCompare 47 = .ok (.getfield 60, 3) := dk_180 0 60 (dk_at dksX6_isCompare_2 0 rfl rfl)
theorem dX6_isCompare_50 : decode cX6_isCompare 50 = .ok (.sipush 305, 3) := dk_17 1 49 (dk_at dksX6_isCompare_2 3 rfl rfl)
theorem dX6_isCompare_53 : decode cX6_isCompare 53 = .ok (.if_icmp .ne 7, 3) := dk_160 0 7 (dk_at dksX6_isCompare_2 6 rfl rfl)
theorem dX6_isCompare_56 : decode cX6_isCompare 56 = .ok (.iconst 1, 1) := dk_4 (dk_at dksX6_isCompare_2 9 rfl rfl)
theorem dX6_isCompare_57 : decode cX6_isCompare 57 = .ok (.goto 4, 3) := dk_167 0 4 (dk_at dksX6_isCompare_2 10 rfl rfl)
theorem dX6_isCompare_60 : decode cX6_isCompare 60 = .ok (.iconst 0, 1) := dk_3 (dk_at dksX6_isCompare_2 13 rfl rfl)
theorem dX6_isCompare_61 : decode cX6_isCompare 61 = .ok (.ireturn, 1) := dk_172 (dk_at dksX6_isCompare_2 14 rfl rfl)
abbrev cX6_line : ByteArray := prog_14_method_15_code
def yX6_line : MethodName := ⟨RX6, "line", "()LSpoonScales$Line;"⟩
def dkwX6_line_5 : List UInt8 := [183, 0, 151, 176]
abbrev dktX6_line_5 : List UInt8 := dkwX6_line_5 ++ []
def dkwX6_line_4 : List UInt8 := [42, 3, 5, 182, 0, 138, 183, 0, 148, 167, 0, 17, 187, 0, 149, 89, 27, 42, 3, 4, 182, 0, 138]
abbrev dktX6_line_4 : List UInt8 := dkwX6_line_4 ++ dktX6_line_5
def dkwX6_line_3 : List UInt8 := [167, 0, 6, 17, 1, 64, 182, 0, 131, 42, 180, 0, 101, 17, 1, 57, 160, 0, 20, 187, 0, 146, 89, 27]
abbrev dktX6_line_3 : List UInt8 := dkwX6_line_3 ++ dktX6_line_4
def dkwX6_line_2 : List UInt8 := [176, 42, 3, 16, 8, 182, 0, 138, 60, 42, 42, 180, 0, 101, 17, 1, 57, 160, 0, 9, 17, 1, 65]
abbrev dktX6_line_2 : List UInt8 := dkwX6_line_2 ++ dktX6_line_3
def dkwX6_line_1 : List UInt8 := [42, 180, 0, 101, 17, 1, 60, 160, 0, 18, 187, 0, 143, 89, 42, 4, 16, 40, 182, 0, 138, 183, 0, 145]
abbrev dktX6_line_1 : List UInt8 := dkwX6_line_1 ++ dktX6_line_2
def dkwX6_line_0 : List UInt8 := [42, 180, 0, 101, 17, 1, 59, 160, 0, 17, 187, 0, 136, 89, 42, 3, 4, 182, 0, 138, 183, 0, 141, 176]
abbrev dktX6_line_0 : List UInt8 := dkwX6_line_0 ++ dktX6_line_1
theorem dksX6_line_0 : cX6_line.data.toList.drop 0 = dktX6_line_0 := by decide +kernel
theorem dksX6_line_1 : cX6_line.data.toList.drop 24 = dktX6_line_1 := dk_seg dksX6_line_0 24 rfl rfl
theorem dksX6_line_2 : cX6_line.data.toList.drop 48 = dktX6_line_2 := dk_seg dksX6_line_1 24 rfl rfl
theorem dksX6_line_3 : cX6_line.data.toList.drop 71 = dktX6_line_3 := dk_seg dksX6_line_2 23 rfl rfl
theorem dksX6_line_4 : cX6_line.data.toList.drop 95 = dktX6_line_4 := dk_seg dksX6_line_3 24 rfl rfl
theorem dksX6_line_5 : cX6_line.data.toList.drop 118 = dktX6_line_5 := dk_seg dksX6_line_4 23 rfl rfl
theorem dX6_line_0 : decode cX6_line 0 = .ok (.aload_n 0, 1) := dk_42 (dk_at dksX6_line_0 0 rfl rfl)
theorem dX6_line_1 : decode cX6_line 1 = .ok (.getfield 101, 3) := dk_180 0 101 (dk_at dksX6_line_0 1 rfl rfl)
theorem dX6_line_4 : decode cX6_line 4 = .ok (.sipush 315, 3) := dk_17 1 59 (dk_at dksX6_line_0 4 rfl rfl)
theorem dX6_line_7 : decode cX6_line 7 = .ok (.if_icmp .ne 17, 3) := dk_160 0 17 (dk_at dksX6_line_0 7 rfl rfl)
theorem dX6_line_10 : decode cX6_line 10 = .ok (.new 136, 3) := dk_187 0 136 (dk_at dksX6_line_0 10 rfl rfl)
theorem dX6_line_13 : decode cX6_line 13 = .ok (.dup, 1) := dk_89 (dk_at dksX6_line_0 13 rfl rfl)
theorem dX6_line_14 : decode cX6_line 14 = .ok (.aload_n 0, 1) := dk_42 (dk_at dksX6_line_0 14 rfl rfl)
theorem dX6_line_15 : decode cX6_line 15 = .ok (.iconst 0, 1) := dk_3 (dk_at dksX6_line_0 15 rfl rfl)
theorem dX6_line_16 : decode cX6_line 16 = .ok (.iconst 1, 1) := dk_4 (dk_at dksX6_line_0 16 rfl rfl)
theorem dX6_line_17 : decode cX6_line 17 = .ok (.invokevirtual 138, 3) := dk_182 0 138 (dk_at dksX6_line_0 17 rfl rfl)
theorem dX6_line_20 : decode cX6_line 20 = .ok (.invokespecial 141, 3) := dk_183 0 141 (dk_at dksX6_line_0 20 rfl rfl)
theorem dX6_line_23 : decode cX6_line 23 = .ok (.areturn, 1) := dk_176 (dk_at dksX6_line_0 23 rfl rfl)
theorem dX6_line_24 : decode cX6_line 24 = .ok (.aload_n 0, 1) := dk_42 (dk_at dksX6_line_1 0 rfl rfl)
theorem dX6_line_25 : decode cX6_line 25 = .ok (.getfield 101, 3) := dk_180 0 101 (dk_at dksX6_line_1 1 rfl rfl)
theorem dX6_line_28 : decode cX6_line 28 = .ok (.sipush 316, 3) := dk_17 1 60 (dk_at dksX6_line_1 4 rfl rfl)
theorem dX6_line_31 : decode cX6_line 31 = .ok (.if_icmp .ne 18, 3) := dk_160 0 18 (dk_at dksX6_line_1 7 rfl rfl)
theorem dX6_line_34 : decode cX6_line 34 = .ok (.new 143, 3) := dk_187 0 143 (dk_at dksX6_line_1 10 rfl rfl)
theorem dX6_line_37 : decode cX6_line 37 = .ok (.dup, 1) := dk_89 (dk_at dksX6_line_1 13 rfl rfl)
theorem dX6_line_38 : decode cX6_line 38 = .ok (.aload_n 0, 1) := dk_42 (dk_at dksX6_line_1 14 rfl rfl)
theorem dX6_line_39 : decode cX6_line 39 = .ok (.iconst 1, 1) := dk_4 (dk_at dksX6_line_1 15 rfl rfl)
theorem dX6_line_40 : decode cX6_line 40 = .ok (.bipush 40, 2) := dk_16 40 (dk_at dksX6_line_1 16 rfl rfl)
theorem dX6_line_42 : decode cX6_line 42 = .ok (.invokevirtual 138, 3) := dk_182 0 138 (dk_at dksX6_line_1 18 rfl rfl)
theorem dX6_line_45 : decode cX6_line 45 = .ok (.invokespecial 145, 3) := dk_183 0 145 (dk_at dksX6_line_1 21 rfl rfl)
theorem dX6_line_48 : decode cX6_line 48 = .ok (.areturn, 1) := dk_176 (dk_at dksX6_line_2 0 rfl rfl)
theorem dX6_line_49 : decode cX6_line 49 = .ok (.aload_n 0, 1) := dk_42 (dk_at dksX6_line_2 1 rfl rfl)
theorem dX6_line_50 : decode cX6_line 50 = .ok (.iconst 0, 1) := dk_3 (dk_at dksX6_line_2 2 rfl rfl)
theorem dX6_line_51 : decode cX6_line 51 = .ok (.bipush 8, 2) := dk_16 8 (dk_at dksX6_line_2 3 rfl rfl)
theorem dX6_line_53 : decode cX6_line 53 = .ok (.invokevirtual 138, 3) := dk_182 0 138 (dk_at dksX6_line_2 5 rfl rfl)
theorem dX6_line_56 : decode cX6_line 56 = .ok (.istore_n 1, 1) := dk_60 (dk_at dksX6_line_2 8 rfl rfl)
theorem dX6_line_57 : decode cX6_line 57 = .ok (.aload_n 0, 1) := dk_42 (dk_at dksX6_line_2 9 rfl rfl)
theorem dX6_line_58 : decode cX6_line 58 = .ok (.aload_n 0, 1) := dk_42 (dk_at dksX6_line_2 10 rfl rfl)
theorem dX6_line_59 : decode cX6_line 59 = .ok (.getfield 101, 3) := dk_180 0 101 (dk_at dksX6_line_2 11 rfl rfl)
theorem dX6_line_62 : decode cX6_line 62 = .ok (.sipush 313, 3) := dk_17 1 57 (dk_at dksX6_line_2 14 rfl rfl)
theorem dX6_line_65 : decode cX6_line 65 = .ok (.if_icmp .ne 9, 3) := dk_160 0 9 (dk_at dksX6_line_2 17 rfl rfl)
theorem dX6_line_68 : decode cX6_line 68 = .ok (.sipush 321, 3) := dk_17 1 65 (dk_at dksX6_line_2 20 rfl rfl)
theorem dX6_line_71 : decode cX6_line 71 = .ok (.goto 6, 3) := dk_167 0 6 (dk_at dksX6_line_3 0 rfl rfl)
theorem dX6_line_74 : decode cX6_line 74 = .ok (.sipush 320, 3) := dk_17 1 64 (dk_at dksX6_line_3 3 rfl rfl)
theorem dX6_line_77 : decode cX6_line 77 = .ok (.invokevirtual 131, 3) := dk_182 0 131 (dk_at dksX6_line_3 6 rfl rfl)
theorem dX6_line_80 : decode cX6_line 80 = .ok (.aload_n 0, 1) := dk_42 (dk_at dksX6_line_3 9 rfl rfl)
theorem dX6_line_81 : decode cX6_line 81 = .ok (.getfield 101, 3) := dk_180 0 101 (dk_at dksX6_line_3 10 rfl rfl)
theorem dX6_line_84 : decode cX6_line 84 = .ok (.sipush 313, 3) := dk_17 1 57 (dk_at dksX6_line_3 13 rfl rfl)
theorem dX6_line_87 : decode cX6_line 87 = .ok (.if_icmp .ne 20, 3) := dk_160 0 20 (dk_at dksX6_line_3 16 rfl rfl)
theorem dX6_line_90 : decode cX6_line 90 = .ok (.new 146, 3) := dk_187 0 146 (dk_at dksX6_line_3 19 rfl rfl)
theorem dX6_line_93 : decode cX6_line 93 = .ok (.dup, 1) := dk_89 (dk_at dksX6_line_3 22 rfl rfl)
theorem dX6_line_94 : decode cX6_line 94 = .ok (.iload_n 1, 1) := dk_27 (dk_at dksX6_line_3 23 rfl rfl)
theorem dX6_line_95 : decode cX6_line 95 = .ok (.aload_n 0, 1) := dk_42 (dk_at dksX6_line_4 0 rfl rfl)
theorem dX6_line_96 : decode cX6_line 96 = .ok (.iconst 0, 1) := dk_3 (dk_at dksX6_line_4 1 rfl rfl)
theorem dX6_line_97 : decode cX6_line 97 = .ok (.iconst 2, 1) := dk_5 (dk_at dksX6_line_4 2 rfl rfl)
theorem dX6_line_98 : decode cX6_line 98 = .ok (.invokevirtual 138, 3) := dk_182 0 138 (dk_at dksX6_line_4 3 rfl rfl)
theorem dX6_line_101 : decode cX6_line 101 = .ok (.invokespecial 148, 3) := dk_183 0 148 (dk_at dksX6_line_4 6 rfl rfl)
theorem dX6_line_104 : decode cX6_line 104 = .ok (.goto 17, 3) := dk_167 0 17 (dk_at dksX6_line_4 9 rfl rfl)
theorem dX6_line_107 : decode cX6_line 107 = .ok (.new 149, 3) := dk_187 0 149 (dk_at dksX6_line_4 12 rfl rfl)
theorem dX6_line_110 : decode cX6_line 110 = .ok (.dup, 1) := dk_89 (dk_at dksX6_line_4 15 rfl rfl)
theorem dX6_line_111 : decode cX6_line 111 = .ok (.iload_n 1, 1) := dk_27 (dk_at dksX6_line_4 16 rfl rfl)
theorem dX6_line_112 : decode cX6_line 112 = .ok (.aload_n 0, 1) := dk_42 (dk_at dksX6_line_4 17 rfl rfl)
theorem dX6_line_113 : decode cX6_line 113 = .ok (.iconst 0, 1) := dk_3 (dk_at dksX6_line_4 18 rfl rfl)
theorem dX6_line_114 : decode cX6_line 114 = .ok (.iconst 1, 1) := dk_4 (dk_at dksX6_line_4 19 rfl rfl)
theorem dX6_line_115 : decode cX6_line 115 = .ok (.invokevirtual 138, 3) := dk_182 0 138 (dk_at dksX6_line_4 20 rfl rfl)
theorem dX6_line_118 : decode cX6_line 118 = .ok (.invokespecial 151, 3) := dk_183 0 151 (dk_at dksX6_line_5 0 rfl rfl)
theorem dX6_line_121 : decode cX6_line 121 = .ok (.areturn, 1) := dk_176 (dk_at dksX6_line_5 3 rfl rfl)
theorem q82 : (Jvm.Cond.initialized "SpoonScales$Reader") ∈ lw_all := lw_g (lw_at lw_m1 9 rfl) rfl
theorem q197 : (Jvm.Cond.fieldLinkNest "SpoonScales$Reader" (104 : Nat) "SpoonScales$Law" "sums" "[LSpoonScales$Sum;" "SpoonScales") ∈ lw_tbl := lw_at lw_m1 124 rfl
theorem q198 : (Jvm.Cond.fieldLinkNest "SpoonScales$Reader" (108 : Nat) "SpoonScales$Law" "guilty" "LSpoonScales$Ask;" "SpoonScales") ∈ lw_tbl := lw_at lw_m1 125 rfl
theorem q201 : (Jvm.Cond.fieldLinkNest "SpoonScales$Reader" (123 : Nat) "SpoonScales$Law" "lines" "[LSpoonScales$Line;" "SpoonScales") ∈ lw_tbl := lw_at lw_m1 128 rfl
theorem q203 : (Jvm.Cond.fieldLinkNest "SpoonScales$Reader" (135 : Nat) "SpoonScales$Law" "clauses" "I" "SpoonScales") ∈ lw_tbl := lw_at lw_m1 130 rfl
theorem q474 : (Jvm.Cond.instantiable "SpoonScales$Reader" (10 : Nat)) ∈ lw_all := lw_g (lw_at lw_m2 161 rfl) rfl
theorem q476 : (Jvm.Cond.instanceMethod ({ cls := "SpoonScales$Reader", name := "<init>", desc := "([BI)V" } : Jvm.MethodName)) ∈ lw_all := lw_g (lw_at lw_m2 163 rfl) rfl
theorem q477 : (Jvm.Cond.code ({ cls := "SpoonScales$Reader", name := "<init>", desc := "([BI)V" } : Jvm.MethodName) prog_14_method_1_code (3 : Nat) (Option.none : Option Jvm.ClassFile.FieldType)) ∈ lw_all := lw_g (lw_at lw_m2 164 rfl) rfl
theorem q478 : (Jvm.Cond.methodLink "SpoonScales$Reader" (3 : Nat) ({ cls := "java/lang/Object", name := "<init>", desc := "()V" } : Jvm.MethodName)) ∈ lw_all := lw_g (lw_at lw_m2 165 rfl) rfl
theorem q479 : (Jvm.Cond.fieldLink "SpoonScales$Reader" (9 : Nat) "SpoonScales$Reader" "text" "[B") ∈ lw_all := lw_g (lw_at lw_m2 166 rfl) rfl
theorem q480 : (Jvm.Cond.fieldLink "SpoonScales$Reader" (15 : Nat) "SpoonScales$Reader" "end" "I") ∈ lw_all := lw_g (lw_at lw_m2 167 rfl) rfl
theorem q481 : (Jvm.Cond.fieldLink "SpoonScales$Reader" (19 : Nat) "SpoonScales$Reader" "at" "I") ∈ lw_all := lw_g (lw_at lw_m2 168 rfl) rfl
theorem q482 : (Jvm.Cond.fieldLink "SpoonScales$Reader" (35 : Nat) "SpoonScales$Reader" "place" "I") ∈ lw_all := lw_g (lw_at lw_m2 169 rfl) rfl
theorem q483 : (Jvm.Cond.fieldLink "SpoonScales$Reader" (60 : Nat) "SpoonScales$Reader" "kind" "I") ∈ lw_all := lw_g (lw_at lw_m2 170 rfl) rfl
theorem q484 : (Jvm.Cond.fieldLink "SpoonScales$Reader" (69 : Nat) "SpoonScales$Reader" "value" "I") ∈ lw_all := lw_g (lw_at lw_m2 171 rfl) rfl
theorem q485 : (Jvm.Cond.fieldLink "SpoonScales$Reader" (57 : Nat) "SpoonScales$Reader" "named" "I") ∈ lw_all := lw_g (lw_at lw_m2 172 rfl) rfl
theorem q486 : (Jvm.Cond.fieldLink "SpoonScales$Reader" (95 : Nat) "SpoonScales$Reader" "open" "I") ∈ lw_all := lw_g (lw_at lw_m2 173 rfl) rfl
theorem q487 : (Jvm.Cond.fieldLink "SpoonScales$Reader" (112 : Nat) "SpoonScales$Reader" "clauses" "I") ∈ lw_all := lw_g (lw_at lw_m2 174 rfl) rfl
theorem q488 : (Jvm.Cond.fieldLink "SpoonScales$Reader" (101 : Nat) "SpoonScales$Reader" "head" "I") ∈ lw_all := lw_g (lw_at lw_m2 175 rfl) rfl
theorem q489 : (Jvm.Cond.laysFinal "SpoonScales$Reader" "SpoonScales$Reader" "text" "[B") ∈ lw_all := lw_g (lw_at lw_m2 176 rfl) rfl
theorem q490 : (Jvm.Cond.soleField "SpoonScales$Reader" "text") ∈ lw_all := lw_g (lw_at lw_m2 177 rfl) rfl
theorem q491 : (Jvm.Cond.laysFinal "SpoonScales$Reader" "SpoonScales$Reader" "end" "I") ∈ lw_all := lw_g (lw_at lw_m2 178 rfl) rfl
theorem q492 : (Jvm.Cond.soleField "SpoonScales$Reader" "end") ∈ lw_all := lw_g (lw_at lw_m2 179 rfl) rfl
theorem q493 : (Jvm.Cond.lays "SpoonScales$Reader" "SpoonScales$Reader" "at" "I") ∈ lw_all := lw_g (lw_at lw_m2 180 rfl) rfl
theorem q494 : (Jvm.Cond.soleField "SpoonScales$Reader" "at") ∈ lw_all := lw_g (lw_at lw_m2 181 rfl) rfl
theorem q495 : (Jvm.Cond.lays "SpoonScales$Reader" "SpoonScales$Reader" "place" "I") ∈ lw_all := lw_g (lw_at lw_m2 182 rfl) rfl
theorem q496 : (Jvm.Cond.soleField "SpoonScales$Reader" "place") ∈ lw_all := lw_g (lw_at lw_m2 183 rfl) rfl
theorem q497 : (Jvm.Cond.lays "SpoonScales$Reader" "SpoonScales$Reader" "kind" "I") ∈ lw_all := lw_g (lw_at lw_m2 184 rfl) rfl
theorem q498 : (Jvm.Cond.soleField "SpoonScales$Reader" "kind") ∈ lw_all := lw_g (lw_at lw_m2 185 rfl) rfl
theorem q499 : (Jvm.Cond.lays "SpoonScales$Reader" "SpoonScales$Reader" "value" "I") ∈ lw_all := lw_g (lw_at lw_m2 186 rfl) rfl
theorem q500 : (Jvm.Cond.soleField "SpoonScales$Reader" "value") ∈ lw_all := lw_g (lw_at lw_m2 187 rfl) rfl
theorem q501 : (Jvm.Cond.lays "SpoonScales$Reader" "SpoonScales$Reader" "named" "I") ∈ lw_all := lw_g (lw_at lw_m2 188 rfl) rfl
theorem q502 : (Jvm.Cond.soleField "SpoonScales$Reader" "named") ∈ lw_all := lw_g (lw_at lw_m2 189 rfl) rfl
theorem q503 : (Jvm.Cond.lays "SpoonScales$Reader" "SpoonScales$Reader" "open" "I") ∈ lw_all := lw_g (lw_at lw_m2 190 rfl) rfl
theorem q504 : (Jvm.Cond.soleField "SpoonScales$Reader" "open") ∈ lw_all := lw_g (lw_at lw_m2 191 rfl) rfl
theorem q505 : (Jvm.Cond.lays "SpoonScales$Reader" "SpoonScales$Reader" "clauses" "I") ∈ lw_all := lw_g (lw_at lw_m2 192 rfl) rfl
theorem q506 : (Jvm.Cond.soleField "SpoonScales$Reader" "clauses") ∈ lw_all := lw_g (lw_at lw_m2 193 rfl) rfl
theorem q507 : (Jvm.Cond.lays "SpoonScales$Reader" "SpoonScales$Reader" "head" "I") ∈ lw_all := lw_g (lw_at lw_m2 194 rfl) rfl
theorem q508 : (Jvm.Cond.soleField "SpoonScales$Reader" "head") ∈ lw_all := lw_g (lw_at lw_m2 195 rfl) rfl
theorem q509 : (Jvm.Cond.superclass "SpoonScales$Reader" "java/lang/Object") ∈ lw_all := lw_g (lw_at lw_m2 196 rfl) rfl
theorem q511 : (Jvm.Cond.instanceMethod ({ cls := "SpoonScales$Reader", name := "read", desc := "()LSpoonScales$Law;" } : Jvm.MethodName)) ∈ lw_all := lw_g (lw_at lw_m2 198 rfl) rfl
theorem q512 : (Jvm.Cond.selects "SpoonScales$Reader" ({ cls := "SpoonScales$Reader", name := "read", desc := "()LSpoonScales$Law;" } : Jvm.MethodName) ({ cls := "SpoonScales$Reader", name := "read", desc := "()LSpoonScales$Law;" } : Jvm.MethodName)) ∈ lw_all := lw_g (lw_at lw_m2 199 rfl) rfl
theorem q513 : (Jvm.Cond.code ({ cls := "SpoonScales$Reader", name := "read", desc := "()LSpoonScales$Law;" } : Jvm.MethodName) prog_14_method_13_code (2 : Nat) (Option.some (Jvm.ClassFile.FieldType.object "SpoonScales$Law"))) ∈ lw_all := lw_g (lw_at lw_m2 200 rfl) rfl
theorem q514 : (Jvm.Cond.classLink "SpoonScales$Reader" (98 : Nat) "SpoonScales$Law") ∈ lw_all := lw_g (lw_at lw_m2 201 rfl) rfl
theorem q515 : (Jvm.Cond.methodLinkNest "SpoonScales$Reader" (100 : Nat) ({ cls := "SpoonScales$Law", name := "<init>", desc := "()V" } : Jvm.MethodName) "SpoonScales") ∈ lw_tbl := lw_at lw_m2 202 rfl
theorem q516 : (Jvm.Cond.methodLink "SpoonScales$Reader" (92 : Nat) ({ cls := "SpoonScales$Reader", name := "next", desc := "()V" } : Jvm.MethodName)) ∈ lw_all := lw_g (lw_at lw_m2 203 rfl) rfl
theorem q517 : (Jvm.Cond.privateMethod ({ cls := "SpoonScales$Reader", name := "next", desc := "()V" } : Jvm.MethodName)) ∈ lw_tbl := lw_at lw_m2 204 rfl
theorem q518 : (Jvm.Cond.instanceMethod ({ cls := "SpoonScales$Reader", name := "next", desc := "()V" } : Jvm.MethodName)) ∈ lw_all := lw_g (lw_at lw_m2 205 rfl) rfl
theorem q519 : (Jvm.Cond.code ({ cls := "SpoonScales$Reader", name := "next", desc := "()V" } : Jvm.MethodName) prog_14_method_8_code (2 : Nat) (Option.none : Option Jvm.ClassFile.FieldType)) ∈ lw_all := lw_g (lw_at lw_m2 206 rfl) rfl
theorem q520 : (Jvm.Cond.methodLink "SpoonScales$Reader" (22 : Nat) ({ cls := "SpoonScales$Reader", name := "see", desc := "()I" } : Jvm.MethodName)) ∈ lw_all := lw_g (lw_at lw_m2 207 rfl) rfl
theorem q521 : (Jvm.Cond.privateMethod ({ cls := "SpoonScales$Reader", name := "see", desc := "()I" } : Jvm.MethodName)) ∈ lw_tbl := lw_at lw_m2 208 rfl
theorem q522 : (Jvm.Cond.instanceMethod ({ cls := "SpoonScales$Reader", name := "see", desc := "()I" } : Jvm.MethodName)) ∈ lw_all := lw_g (lw_at lw_m2 209 rfl) rfl
theorem q523 : (Jvm.Cond.code ({ cls := "SpoonScales$Reader", name := "see", desc := "()I" } : Jvm.MethodName) prog_14_method_2_code (1 : Nat) (Option.some Jvm.ClassFile.FieldType.int)) ∈ lw_all := lw_g (lw_at lw_m2 210 rfl) rfl
theorem q524 : (Jvm.Cond.methodLink "SpoonScales$Reader" (42 : Nat) ({ cls := "SpoonScales$Reader", name := "isLetter", desc := "()Z" } : Jvm.MethodName)) ∈ lw_all := lw_g (lw_at lw_m2 211 rfl) rfl
theorem q525 : (Jvm.Cond.privateMethod ({ cls := "SpoonScales$Reader", name := "isLetter", desc := "()Z" } : Jvm.MethodName)) ∈ lw_tbl := lw_at lw_m2 212 rfl
theorem q526 : (Jvm.Cond.instanceMethod ({ cls := "SpoonScales$Reader", name := "isLetter", desc := "()Z" } : Jvm.MethodName)) ∈ lw_all := lw_g (lw_at lw_m2 213 rfl) rfl
theorem q527 : (Jvm.Cond.code ({ cls := "SpoonScales$Reader", name := "isLetter", desc := "()Z" } : Jvm.MethodName) prog_14_method_3_code (1 : Nat) (Option.some Jvm.ClassFile.FieldType.boolean)) ∈ lw_all := lw_g (lw_at lw_m2 214 rfl) rfl
theorem q528 : (Jvm.Cond.methodLinkNest "SpoonScales$Reader" (26 : Nat) ({ cls := "SpoonScales", name := "in", desc := "(III)Z" } : Jvm.MethodName) "SpoonScales") ∈ lw_tbl := lw_at lw_m2 215 rfl
theorem q529 : (Jvm.Cond.methodLink "SpoonScales$Reader" (63 : Nat) ({ cls := "SpoonScales$Reader", name := "word", desc := "()V" } : Jvm.MethodName)) ∈ lw_all := lw_g (lw_at lw_m2 216 rfl) rfl
theorem q530 : (Jvm.Cond.privateMethod ({ cls := "SpoonScales$Reader", name := "word", desc := "()V" } : Jvm.MethodName)) ∈ lw_tbl := lw_at lw_m2 217 rfl
theorem q531 : (Jvm.Cond.instanceMethod ({ cls := "SpoonScales$Reader", name := "word", desc := "()V" } : Jvm.MethodName)) ∈ lw_all := lw_g (lw_at lw_m2 218 rfl) rfl
theorem q532 : (Jvm.Cond.code ({ cls := "SpoonScales$Reader", name := "word", desc := "()V" } : Jvm.MethodName) prog_14_method_7_code (2 : Nat) (Option.none : Option Jvm.ClassFile.FieldType)) ∈ lw_all := lw_g (lw_at lw_m2 219 rfl) rfl
theorem q533 : (Jvm.Cond.fieldLink "SpoonScales$Reader" (46 : Nat) "SpoonScales$Reader" "HEADS" "[Ljava/lang/String;") ∈ lw_all := lw_g (lw_at lw_m2 220 rfl) rfl
theorem q534 : (Jvm.Cond.laysStatic "SpoonScales$Reader" "HEADS" "[Ljava/lang/String;") ∈ lw_tbl := lw_at lw_m2 221 rfl
theorem q535 : (Jvm.Cond.methodLink "SpoonScales$Reader" (50 : Nat) ({ cls := "SpoonScales$Reader", name := "wordOf", desc := "([Ljava/lang/String;)I" } : Jvm.MethodName)) ∈ lw_all := lw_g (lw_at lw_m2 222 rfl) rfl
theorem q536 : (Jvm.Cond.privateMethod ({ cls := "SpoonScales$Reader", name := "wordOf", desc := "([Ljava/lang/String;)I" } : Jvm.MethodName)) ∈ lw_tbl := lw_at lw_m2 223 rfl
theorem q537 : (Jvm.Cond.instanceMethod ({ cls := "SpoonScales$Reader", name := "wordOf", desc := "([Ljava/lang/String;)I" } : Jvm.MethodName)) ∈ lw_all := lw_g (lw_at lw_m2 224 rfl) rfl
theorem q538 : (Jvm.Cond.code ({ cls := "SpoonScales$Reader", name := "wordOf", desc := "([Ljava/lang/String;)I" } : Jvm.MethodName) prog_14_method_6_code (5 : Nat) (Option.some Jvm.ClassFile.FieldType.int)) ∈ lw_all := lw_g (lw_at lw_m2 225 rfl) rfl
theorem q539 : (Jvm.Cond.methodLink "SpoonScales$Reader" (30 : Nat) ({ cls := "java/lang/String", name := "length", desc := "()I" } : Jvm.MethodName)) ∈ lw_all := lw_g (lw_at lw_m2 226 rfl) rfl
theorem q549 : (Jvm.Cond.methodLink "SpoonScales$Reader" (38 : Nat) ({ cls := "java/lang/String", name := "charAt", desc := "(I)C" } : Jvm.MethodName)) ∈ lw_all := lw_g (lw_at lw_m2 236 rfl) rfl
theorem q587 : (Jvm.Cond.fieldLink "SpoonScales$Reader" (54 : Nat) "SpoonScales$Reader" "CALLED" "[Ljava/lang/String;") ∈ lw_all := lw_g (lw_at lw_m3 34 rfl) rfl
theorem q588 : (Jvm.Cond.laysStatic "SpoonScales$Reader" "CALLED" "[Ljava/lang/String;") ∈ lw_tbl := lw_at lw_m3 35 rfl
theorem q589 : (Jvm.Cond.methodLink "SpoonScales$Reader" (66 : Nat) ({ cls := "SpoonScales$Reader", name := "isDigit", desc := "()Z" } : Jvm.MethodName)) ∈ lw_all := lw_g (lw_at lw_m3 36 rfl) rfl
theorem q590 : (Jvm.Cond.privateMethod ({ cls := "SpoonScales$Reader", name := "isDigit", desc := "()Z" } : Jvm.MethodName)) ∈ lw_tbl := lw_at lw_m3 37 rfl
theorem q591 : (Jvm.Cond.instanceMethod ({ cls := "SpoonScales$Reader", name := "isDigit", desc := "()Z" } : Jvm.MethodName)) ∈ lw_all := lw_g (lw_at lw_m3 38 rfl) rfl
theorem q592 : (Jvm.Cond.code ({ cls := "SpoonScales$Reader", name := "isDigit", desc := "()Z" } : Jvm.MethodName) prog_14_method_4_code (1 : Nat) (Option.some Jvm.ClassFile.FieldType.boolean)) ∈ lw_all := lw_g (lw_at lw_m3 39 rfl) rfl
theorem q593 : (Jvm.Cond.constant "SpoonScales$Reader" (72 : Nat) (100000 : Int32)) ∈ lw_all := lw_g (lw_at lw_m3 40 rfl) rfl
theorem q594 : (Jvm.Cond.methodLink "SpoonScales$Reader" (73 : Nat) ({ cls := "java/lang/Math", name := "min", desc := "(II)I" } : Jvm.MethodName)) ∈ lw_all := lw_g (lw_at lw_m3 41 rfl) rfl
theorem q595 : (Jvm.Cond.methodLink "SpoonScales$Reader" (79 : Nat) ({ cls := "SpoonScales$Reader", name := "isSign", desc := "(I)Z" } : Jvm.MethodName)) ∈ lw_all := lw_g (lw_at lw_m3 42 rfl) rfl
theorem q596 : (Jvm.Cond.static ({ cls := "SpoonScales$Reader", name := "isSign", desc := "(I)Z" } : Jvm.MethodName)) ∈ lw_all := lw_g (lw_at lw_m3 43 rfl) rfl
theorem q597 : (Jvm.Cond.code ({ cls := "SpoonScales$Reader", name := "isSign", desc := "(I)Z" } : Jvm.MethodName) prog_14_method_5_code (1 : Nat) (Option.some Jvm.ClassFile.FieldType.boolean)) ∈ lw_all := lw_g (lw_at lw_m3 44 rfl) rfl
theorem q598 : (Jvm.Cond.methodLink "SpoonScales$Reader" (88 : Nat) ({ cls := "SpoonScales$Reader", name := "wrong", desc := "(I)LSpoonScales$Wrong;" } : Jvm.MethodName)) ∈ lw_all := lw_g (lw_at lw_m3 45 rfl) rfl
theorem q599 : (Jvm.Cond.privateMethod ({ cls := "SpoonScales$Reader", name := "wrong", desc := "(I)LSpoonScales$Wrong;" } : Jvm.MethodName)) ∈ lw_tbl := lw_at lw_m3 46 rfl
theorem q600 : (Jvm.Cond.instanceMethod ({ cls := "SpoonScales$Reader", name := "wrong", desc := "(I)LSpoonScales$Wrong;" } : Jvm.MethodName)) ∈ lw_all := lw_g (lw_at lw_m3 47 rfl) rfl
theorem q601 : (Jvm.Cond.code ({ cls := "SpoonScales$Reader", name := "wrong", desc := "(I)LSpoonScales$Wrong;" } : Jvm.MethodName) prog_14_method_9_code (2 : Nat) (Option.some (Jvm.ClassFile.FieldType.object "SpoonScales$Wrong"))) ∈ lw_all := lw_g (lw_at lw_m3 48 rfl) rfl
theorem q602 : (Jvm.Cond.classLink "SpoonScales$Reader" (83 : Nat) "SpoonScales$Wrong") ∈ lw_all := lw_g (lw_at lw_m3 49 rfl) rfl
theorem q641 : (Jvm.Cond.methodLink "SpoonScales$Reader" (85 : Nat) ({ cls := "SpoonScales$Wrong", name := "<init>", desc := "(II)V" } : Jvm.MethodName)) ∈ lw_all := lw_g (lw_at lw_m3 88 rfl) rfl
theorem q674 : (Jvm.Cond.methodLink "SpoonScales$Reader" (115 : Nat) ({ cls := "SpoonScales$Reader", name := "sum", desc := "()LSpoonScales$Sum;" } : Jvm.MethodName)) ∈ lw_all := lw_g (lw_at lw_m3 121 rfl) rfl
theorem q675 : (Jvm.Cond.privateMethod ({ cls := "SpoonScales$Reader", name := "sum", desc := "()LSpoonScales$Sum;" } : Jvm.MethodName)) ∈ lw_tbl := lw_at lw_m3 122 rfl
theorem q676 : (Jvm.Cond.instanceMethod ({ cls := "SpoonScales$Reader", name := "sum", desc := "()LSpoonScales$Sum;" } : Jvm.MethodName)) ∈ lw_all := lw_g (lw_at lw_m3 123 rfl) rfl
theorem q677 : (Jvm.Cond.code ({ cls := "SpoonScales$Reader", name := "sum", desc := "()LSpoonScales$Sum;" } : Jvm.MethodName) prog_14_method_20_code (3 : Nat) (Option.some (Jvm.ClassFile.FieldType.object "SpoonScales$Sum"))) ∈ lw_all := lw_g (lw_at lw_m3 124 rfl) rfl
theorem q678 : (Jvm.Cond.methodLink "SpoonScales$Reader" (179 : Nat) ({ cls := "SpoonScales$Reader", name := "product", desc := "()LSpoonScales$Sum;" } : Jvm.MethodName)) ∈ lw_all := lw_g (lw_at lw_m3 125 rfl) rfl
theorem q679 : (Jvm.Cond.privateMethod ({ cls := "SpoonScales$Reader", name := "product", desc := "()LSpoonScales$Sum;" } : Jvm.MethodName)) ∈ lw_tbl := lw_at lw_m3 126 rfl
theorem q680 : (Jvm.Cond.instanceMethod ({ cls := "SpoonScales$Reader", name := "product", desc := "()LSpoonScales$Sum;" } : Jvm.MethodName)) ∈ lw_all := lw_g (lw_at lw_m3 127 rfl) rfl
theorem q681 : (Jvm.Cond.code ({ cls := "SpoonScales$Reader", name := "product", desc := "()LSpoonScales$Sum;" } : Jvm.MethodName) prog_14_method_21_code (3 : Nat) (Option.some (Jvm.ClassFile.FieldType.object "SpoonScales$Sum"))) ∈ lw_all := lw_g (lw_at lw_m3 128 rfl) rfl
theorem q682 : (Jvm.Cond.methodLink "SpoonScales$Reader" (185 : Nat) ({ cls := "SpoonScales$Reader", name := "one", desc := "()LSpoonScales$Sum;" } : Jvm.MethodName)) ∈ lw_all := lw_g (lw_at lw_m3 129 rfl) rfl
theorem q683 : (Jvm.Cond.privateMethod ({ cls := "SpoonScales$Reader", name := "one", desc := "()LSpoonScales$Sum;" } : Jvm.MethodName)) ∈ lw_tbl := lw_at lw_m3 130 rfl
theorem q684 : (Jvm.Cond.instanceMethod ({ cls := "SpoonScales$Reader", name := "one", desc := "()LSpoonScales$Sum;" } : Jvm.MethodName)) ∈ lw_all := lw_g (lw_at lw_m3 131 rfl) rfl
theorem q685 : (Jvm.Cond.code ({ cls := "SpoonScales$Reader", name := "one", desc := "()LSpoonScales$Sum;" } : Jvm.MethodName) prog_14_method_22_code (2 : Nat) (Option.some (Jvm.ClassFile.FieldType.object "SpoonScales$Sum"))) ∈ lw_all := lw_g (lw_at lw_m3 132 rfl) rfl
theorem q686 : (Jvm.Cond.methodLink "SpoonScales$Reader" (188 : Nat) ({ cls := "SpoonScales$Reader", name := "isOf", desc := "(I)Z" } : Jvm.MethodName)) ∈ lw_all := lw_g (lw_at lw_m3 133 rfl) rfl
theorem q687 : (Jvm.Cond.privateMethod ({ cls := "SpoonScales$Reader", name := "isOf", desc := "(I)Z" } : Jvm.MethodName)) ∈ lw_tbl := lw_at lw_m3 134 rfl
theorem q688 : (Jvm.Cond.instanceMethod ({ cls := "SpoonScales$Reader", name := "isOf", desc := "(I)Z" } : Jvm.MethodName)) ∈ lw_all := lw_g (lw_at lw_m3 135 rfl) rfl
theorem q689 : (Jvm.Cond.code ({ cls := "SpoonScales$Reader", name := "isOf", desc := "(I)Z" } : Jvm.MethodName) prog_14_method_14_code (2 : Nat) (Option.some Jvm.ClassFile.FieldType.boolean)) ∈ lw_all := lw_g (lw_at lw_m3 136 rfl) rfl
theorem q690 : (Jvm.Cond.classLink "SpoonScales$Reader" (191 : Nat) "SpoonScales$Word") ∈ lw_all := lw_g (lw_at lw_m3 137 rfl) rfl
theorem q692 : (Jvm.Cond.methodLink "SpoonScales$Reader" (193 : Nat) ({ cls := "SpoonScales$Word", name := "<init>", desc := "(I)V" } : Jvm.MethodName)) ∈ lw_all := lw_g (lw_at lw_m3 139 rfl) rfl
theorem q700 : (Jvm.Cond.classLink "SpoonScales$Reader" (194 : Nat) "SpoonScales$Constant") ∈ lw_all := lw_g (lw_at lw_m3 147 rfl) rfl
theorem q702 : (Jvm.Cond.methodLink "SpoonScales$Reader" (138 : Nat) ({ cls := "SpoonScales$Reader", name := "number", desc := "(II)I" } : Jvm.MethodName)) ∈ lw_all := lw_g (lw_at lw_m3 149 rfl) rfl
theorem q703 : (Jvm.Cond.privateMethod ({ cls := "SpoonScales$Reader", name := "number", desc := "(II)I" } : Jvm.MethodName)) ∈ lw_tbl := lw_at lw_m3 150 rfl
theorem q704 : (Jvm.Cond.instanceMethod ({ cls := "SpoonScales$Reader", name := "number", desc := "(II)I" } : Jvm.MethodName)) ∈ lw_all := lw_g (lw_at lw_m3 151 rfl) rfl
theorem q705 : (Jvm.Cond.code ({ cls := "SpoonScales$Reader", name := "number", desc := "(II)I" } : Jvm.MethodName) prog_14_method_12_code (4 : Nat) (Option.some Jvm.ClassFile.FieldType.int)) ∈ lw_all := lw_g (lw_at lw_m3 152 rfl) rfl
theorem q706 : (Jvm.Cond.methodLink "SpoonScales$Reader" (196 : Nat) ({ cls := "SpoonScales$Constant", name := "<init>", desc := "(I)V" } : Jvm.MethodName)) ∈ lw_all := lw_g (lw_at lw_m3 153 rfl) rfl
theorem q714 : (Jvm.Cond.methodLink "SpoonScales$Reader" (163 : Nat) ({ cls := "SpoonScales$Reader", name := "opens", desc := "()V" } : Jvm.MethodName)) ∈ lw_all := lw_g (lw_at lw_m3 161 rfl) rfl
theorem q715 : (Jvm.Cond.privateMethod ({ cls := "SpoonScales$Reader", name := "opens", desc := "()V" } : Jvm.MethodName)) ∈ lw_tbl := lw_at lw_m3 162 rfl
theorem q716 : (Jvm.Cond.instanceMethod ({ cls := "SpoonScales$Reader", name := "opens", desc := "()V" } : Jvm.MethodName)) ∈ lw_all := lw_g (lw_at lw_m3 163 rfl) rfl
theorem q717 : (Jvm.Cond.code ({ cls := "SpoonScales$Reader", name := "opens", desc := "()V" } : Jvm.MethodName) prog_14_method_11_code (1 : Nat) (Option.none : Option Jvm.ClassFile.FieldType)) ∈ lw_all := lw_g (lw_at lw_m3 164 rfl) rfl
theorem q718 : (Jvm.Cond.methodLink "SpoonScales$Reader" (131 : Nat) ({ cls := "SpoonScales$Reader", name := "need", desc := "(I)V" } : Jvm.MethodName)) ∈ lw_all := lw_g (lw_at lw_m3 165 rfl) rfl
theorem q719 : (Jvm.Cond.privateMethod ({ cls := "SpoonScales$Reader", name := "need", desc := "(I)V" } : Jvm.MethodName)) ∈ lw_tbl := lw_at lw_m3 166 rfl
theorem q720 : (Jvm.Cond.instanceMethod ({ cls := "SpoonScales$Reader", name := "need", desc := "(I)V" } : Jvm.MethodName)) ∈ lw_all := lw_g (lw_at lw_m3 167 rfl) rfl
theorem q721 : (Jvm.Cond.code ({ cls := "SpoonScales$Reader", name := "need", desc := "(I)V" } : Jvm.MethodName) prog_14_method_10_code (2 : Nat) (Option.none : Option Jvm.ClassFile.FieldType)) ∈ lw_all := lw_g (lw_at lw_m3 168 rfl) rfl
theorem q722 : (Jvm.Cond.classLink "SpoonScales$Reader" (197 : Nat) "SpoonScales$Minus") ∈ lw_all := lw_g (lw_at lw_m3 169 rfl) rfl
theorem q724 : (Jvm.Cond.methodLink "SpoonScales$Reader" (199 : Nat) ({ cls := "SpoonScales$Minus", name := "<init>", desc := "(LSpoonScales$Sum;)V" } : Jvm.MethodName)) ∈ lw_all := lw_g (lw_at lw_m3 171 rfl) rfl
theorem q732 : (Jvm.Cond.classLink "SpoonScales$Reader" (182 : Nat) "SpoonScales$Two") ∈ lw_all := lw_g (lw_at lw_m3 179 rfl) rfl
theorem q734 : (Jvm.Cond.methodLink "SpoonScales$Reader" (184 : Nat) ({ cls := "SpoonScales$Two", name := "<init>", desc := "(ILSpoonScales$Sum;LSpoonScales$Sum;)V" } : Jvm.MethodName)) ∈ lw_all := lw_g (lw_at lw_m3 181 rfl) rfl
theorem q747 : (Jvm.Cond.methodLink "SpoonScales$Reader" (119 : Nat) ({ cls := "SpoonScales$Reader", name := "either", desc := "()LSpoonScales$Ask;" } : Jvm.MethodName)) ∈ lw_all := lw_g (lw_at lw_m3 194 rfl) rfl
theorem q748 : (Jvm.Cond.privateMethod ({ cls := "SpoonScales$Reader", name := "either", desc := "()LSpoonScales$Ask;" } : Jvm.MethodName)) ∈ lw_tbl := lw_at lw_m3 195 rfl
theorem q749 : (Jvm.Cond.instanceMethod ({ cls := "SpoonScales$Reader", name := "either", desc := "()LSpoonScales$Ask;" } : Jvm.MethodName)) ∈ lw_all := lw_g (lw_at lw_m3 196 rfl) rfl
theorem q750 : (Jvm.Cond.code ({ cls := "SpoonScales$Reader", name := "either", desc := "()LSpoonScales$Ask;" } : Jvm.MethodName) prog_14_method_16_code (2 : Nat) (Option.some (Jvm.ClassFile.FieldType.object "SpoonScales$Ask"))) ∈ lw_all := lw_g (lw_at lw_m3 197 rfl) rfl
theorem q751 : (Jvm.Cond.methodLink "SpoonScales$Reader" (152 : Nat) ({ cls := "SpoonScales$Reader", name := "both", desc := "()LSpoonScales$Ask;" } : Jvm.MethodName)) ∈ lw_all := lw_g (lw_at lw_m3 198 rfl) rfl
theorem q752 : (Jvm.Cond.privateMethod ({ cls := "SpoonScales$Reader", name := "both", desc := "()LSpoonScales$Ask;" } : Jvm.MethodName)) ∈ lw_tbl := lw_at lw_m3 199 rfl
theorem q753 : (Jvm.Cond.instanceMethod ({ cls := "SpoonScales$Reader", name := "both", desc := "()LSpoonScales$Ask;" } : Jvm.MethodName)) ∈ lw_all := lw_g (lw_at lw_m3 200 rfl) rfl
theorem q754 : (Jvm.Cond.code ({ cls := "SpoonScales$Reader", name := "both", desc := "()LSpoonScales$Ask;" } : Jvm.MethodName) prog_14_method_17_code (2 : Nat) (Option.some (Jvm.ClassFile.FieldType.object "SpoonScales$Ask"))) ∈ lw_all := lw_g (lw_at lw_m3 201 rfl) rfl
theorem q755 : (Jvm.Cond.methodLink "SpoonScales$Reader" (160 : Nat) ({ cls := "SpoonScales$Reader", name := "ask", desc := "()LSpoonScales$Ask;" } : Jvm.MethodName)) ∈ lw_all := lw_g (lw_at lw_m3 202 rfl) rfl
theorem q756 : (Jvm.Cond.privateMethod ({ cls := "SpoonScales$Reader", name := "ask", desc := "()LSpoonScales$Ask;" } : Jvm.MethodName)) ∈ lw_tbl := lw_at lw_m3 203 rfl
theorem q757 : (Jvm.Cond.instanceMethod ({ cls := "SpoonScales$Reader", name := "ask", desc := "()LSpoonScales$Ask;" } : Jvm.MethodName)) ∈ lw_all := lw_g (lw_at lw_m3 204 rfl) rfl
theorem q758 : (Jvm.Cond.code ({ cls := "SpoonScales$Reader", name := "ask", desc := "()LSpoonScales$Ask;" } : Jvm.MethodName) prog_14_method_19_code (3 : Nat) (Option.some (Jvm.ClassFile.FieldType.object "SpoonScales$Ask"))) ∈ lw_all := lw_g (lw_at lw_m3 205 rfl) rfl
theorem q759 : (Jvm.Cond.classLink "SpoonScales$Reader" (166 : Nat) "SpoonScales$Not") ∈ lw_all := lw_g (lw_at lw_m3 206 rfl) rfl
theorem q761 : (Jvm.Cond.methodLink "SpoonScales$Reader" (168 : Nat) ({ cls := "SpoonScales$Not", name := "<init>", desc := "(LSpoonScales$Ask;)V" } : Jvm.MethodName)) ∈ lw_all := lw_g (lw_at lw_m3 208 rfl) rfl
theorem q769 : (Jvm.Cond.methodLink "SpoonScales$Reader" (171 : Nat) ({ cls := "SpoonScales$Reader", name := "isCompare", desc := "()Z" } : Jvm.MethodName)) ∈ lw_all := lw_g (lw_at lw_m3 216 rfl) rfl
theorem q770 : (Jvm.Cond.privateMethod ({ cls := "SpoonScales$Reader", name := "isCompare", desc := "()Z" } : Jvm.MethodName)) ∈ lw_tbl := lw_at lw_m3 217 rfl
theorem q771 : (Jvm.Cond.instanceMethod ({ cls := "SpoonScales$Reader", name := "isCompare", desc := "()Z" } : Jvm.MethodName)) ∈ lw_all := lw_g (lw_at lw_m3 218 rfl) rfl
theorem q772 : (Jvm.Cond.code ({ cls := "SpoonScales$Reader", name := "isCompare", desc := "()Z" } : Jvm.MethodName) prog_14_method_18_code (1 : Nat) (Option.some Jvm.ClassFile.FieldType.boolean)) ∈ lw_all := lw_g (lw_at lw_m3 219 rfl) rfl
theorem q773 : (Jvm.Cond.classLink "SpoonScales$Reader" (174 : Nat) "SpoonScales$Compare") ∈ lw_all := lw_g (lw_at lw_m3 220 rfl) rfl
theorem q775 : (Jvm.Cond.methodLink "SpoonScales$Reader" (176 : Nat) ({ cls := "SpoonScales$Compare", name := "<init>", desc := "(ILSpoonScales$Sum;LSpoonScales$Sum;)V" } : Jvm.MethodName)) ∈ lw_all := lw_g (lw_at lw_m3 222 rfl) rfl
theorem q789 : (Jvm.Cond.classLink "SpoonScales$Reader" (155 : Nat) "SpoonScales$Both") ∈ lw_all := lw_g (lw_at lw_m3 236 rfl) rfl
theorem q791 : (Jvm.Cond.methodLink "SpoonScales$Reader" (157 : Nat) ({ cls := "SpoonScales$Both", name := "<init>", desc := "(ZLSpoonScales$Ask;LSpoonScales$Ask;)V" } : Jvm.MethodName)) ∈ lw_all := lw_g (lw_at lw_m3 238 rfl) rfl
theorem q805 : (Jvm.Cond.methodLink "SpoonScales$Reader" (127 : Nat) ({ cls := "SpoonScales$Reader", name := "line", desc := "()LSpoonScales$Line;" } : Jvm.MethodName)) ∈ lw_all := lw_g (lw_at lw_m4 12 rfl) rfl
theorem q806 : (Jvm.Cond.privateMethod ({ cls := "SpoonScales$Reader", name := "line", desc := "()LSpoonScales$Line;" } : Jvm.MethodName)) ∈ lw_tbl := lw_at lw_m4 13 rfl
theorem q807 : (Jvm.Cond.instanceMethod ({ cls := "SpoonScales$Reader", name := "line", desc := "()LSpoonScales$Line;" } : Jvm.MethodName)) ∈ lw_all := lw_g (lw_at lw_m4 14 rfl) rfl
theorem q808 : (Jvm.Cond.code ({ cls := "SpoonScales$Reader", name := "line", desc := "()LSpoonScales$Line;" } : Jvm.MethodName) prog_14_method_15_code (2 : Nat) (Option.some (Jvm.ClassFile.FieldType.object "SpoonScales$Line"))) ∈ lw_all := lw_g (lw_at lw_m4 15 rfl) rfl
theorem q809 : (Jvm.Cond.classLink "SpoonScales$Reader" (136 : Nat) "SpoonScales$Judge") ∈ lw_all := lw_g (lw_at lw_m4 16 rfl) rfl
theorem q811 : (Jvm.Cond.methodLink "SpoonScales$Reader" (141 : Nat) ({ cls := "SpoonScales$Judge", name := "<init>", desc := "(I)V" } : Jvm.MethodName)) ∈ lw_all := lw_g (lw_at lw_m4 18 rfl) rfl
theorem q819 : (Jvm.Cond.classLink "SpoonScales$Reader" (143 : Nat) "SpoonScales$Flies") ∈ lw_all := lw_g (lw_at lw_m4 26 rfl) rfl
theorem q821 : (Jvm.Cond.methodLink "SpoonScales$Reader" (145 : Nat) ({ cls := "SpoonScales$Flies", name := "<init>", desc := "(I)V" } : Jvm.MethodName)) ∈ lw_all := lw_g (lw_at lw_m4 28 rfl) rfl
theorem q829 : (Jvm.Cond.classLink "SpoonScales$Reader" (146 : Nat) "SpoonScales$Sit") ∈ lw_all := lw_g (lw_at lw_m4 36 rfl) rfl
theorem q831 : (Jvm.Cond.methodLink "SpoonScales$Reader" (148 : Nat) ({ cls := "SpoonScales$Sit", name := "<init>", desc := "(II)V" } : Jvm.MethodName)) ∈ lw_all := lw_g (lw_at lw_m4 38 rfl) rfl
theorem q842 : (Jvm.Cond.classLink "SpoonScales$Reader" (149 : Nat) "SpoonScales$Spoon") ∈ lw_all := lw_g (lw_at lw_m4 49 rfl) rfl
theorem q844 : (Jvm.Cond.methodLink "SpoonScales$Reader" (151 : Nat) ({ cls := "SpoonScales$Spoon", name := "<init>", desc := "(II)V" } : Jvm.MethodName)) ∈ lw_all := lw_g (lw_at lw_m4 51 rfl) rfl
theorem q1558 : (Jvm.Cond.stringRef "SpoonScales$Reader" (202 : Nat) "eats") ∈ lw_tbl := lw_at lw_m7 45 rfl
theorem q1559 : (Jvm.Cond.stringRef "SpoonScales$Reader" (204 : Nat) "holds") ∈ lw_tbl := lw_at lw_m7 46 rfl
theorem q1560 : (Jvm.Cond.stringRef "SpoonScales$Reader" (206 : Nat) "guilty") ∈ lw_tbl := lw_at lw_m7 47 rfl
theorem q1561 : (Jvm.Cond.stringRef "SpoonScales$Reader" (207 : Nat) "sit") ∈ lw_tbl := lw_at lw_m7 48 rfl
theorem q1562 : (Jvm.Cond.stringRef "SpoonScales$Reader" (209 : Nat) "spoon") ∈ lw_tbl := lw_at lw_m7 49 rfl
theorem q1563 : (Jvm.Cond.stringRef "SpoonScales$Reader" (211 : Nat) "judge") ∈ lw_tbl := lw_at lw_m7 50 rfl
theorem q1564 : (Jvm.Cond.stringRef "SpoonScales$Reader" (213 : Nat) "flies") ∈ lw_tbl := lw_at lw_m7 51 rfl
theorem q1565 : (Jvm.Cond.stringRef "SpoonScales$Reader" (215 : Nat) "or") ∈ lw_tbl := lw_at lw_m7 52 rfl
theorem q1566 : (Jvm.Cond.stringRef "SpoonScales$Reader" (217 : Nat) "and") ∈ lw_tbl := lw_at lw_m7 53 rfl
theorem q1567 : (Jvm.Cond.stringRef "SpoonScales$Reader" (219 : Nat) "not") ∈ lw_tbl := lw_at lw_m7 54 rfl
theorem q1568 : (Jvm.Cond.stringRef "SpoonScales$Reader" (221 : Nat) "of") ∈ lw_tbl := lw_at lw_m7 55 rfl
theorem q1569 : (Jvm.Cond.stringRef "SpoonScales$Reader" (223 : Nat) "at") ∈ lw_tbl := lw_at lw_m7 56 rfl
theorem q1571 : (Jvm.Cond.stringRef "SpoonScales$Reader" (224 : Nat) "eater") ∈ lw_tbl := lw_at lw_m7 58 rfl
theorem q1572 : (Jvm.Cond.stringRef "SpoonScales$Reader" (226 : Nat) "hunger") ∈ lw_tbl := lw_at lw_m7 59 rfl
theorem q1573 : (Jvm.Cond.stringRef "SpoonScales$Reader" (228 : Nat) "stomachs") ∈ lw_tbl := lw_at lw_m7 60 rfl
theorem q1574 : (Jvm.Cond.stringRef "SpoonScales$Reader" (230 : Nat) "eaten") ∈ lw_tbl := lw_at lw_m7 61 rfl
theorem q1575 : (Jvm.Cond.stringRef "SpoonScales$Reader" (232 : Nat) "kind") ∈ lw_tbl := lw_at lw_m7 62 rfl
theorem q1576 : (Jvm.Cond.stringRef "SpoonScales$Reader" (233 : Nat) "left") ∈ lw_tbl := lw_at lw_m7 63 rfl
theorem q1577 : (Jvm.Cond.stringRef "SpoonScales$Reader" (235 : Nat) "spoons") ∈ lw_tbl := lw_at lw_m7 64 rfl
theorem q1578 : (Jvm.Cond.stringRef "SpoonScales$Reader" (237 : Nat) "side") ∈ lw_tbl := lw_at lw_m7 65 rfl
theorem q1579 : (Jvm.Cond.stringRef "SpoonScales$Reader" (239 : Nat) "tilt") ∈ lw_tbl := lw_at lw_m7 66 rfl
theorem q1580 : (Jvm.Cond.stringRef "SpoonScales$Reader" (241 : Nat) "honey") ∈ lw_tbl := lw_at lw_m7 67 rfl
theorem q1581 : (Jvm.Cond.stringRef "SpoonScales$Reader" (243 : Nat) "salt") ∈ lw_tbl := lw_at lw_m7 68 rfl
theorem q1582 : (Jvm.Cond.stringRef "SpoonScales$Reader" (245 : Nat) "dents") ∈ lw_tbl := lw_at lw_m7 69 rfl
theorem in_X6 : ∀ w ∈ wsX60, w ∈ lw_all := lw_in wsX60 [489, 491, 493, 495, 497, 499, 501, 503, 505, 507] (by decide +kernel) (by decide +kernel)
