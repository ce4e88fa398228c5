/-! PlyHouse$Reader -/
set_option maxRecDepth 100000
def RX4 : String := "PlyHouse$Reader"
def TX4 : u_T := fun k => match k with
  | 0 => ("PlyHouse$Reader", "text", "[B", true)
  | 1 => ("PlyHouse$Reader", "size", "I", true)
  | 2 => ("PlyHouse$Reader", "at", "I", false)
  | 3 => ("PlyHouse$Reader", "end", "I", false)
  | 4 => ("PlyHouse$Reader", "token", "I", false)
  | 5 => ("PlyHouse$Reader", "number", "I", false)
  | 6 => ("PlyHouse$Reader", "terms", "I", false)
  | _ => ("PlyHouse$Reader", "within", "I", false)
def tyX4 : Nat → FieldType := fun k => match k with
  | 0 => .array .byte
  | 1 => .int
  | 2 => .int
  | 3 => .int
  | 4 => .int
  | 5 => .int
  | 6 => .int
  | _ => .int
abbrev wsX40 : List Cond := u_ws RX4 TX4 8
theorem nmX4 : ∀ a, a < 8 → ∀ b, b < 8 → a ≠ b → (TX4 a).2.1 ≠ (TX4 b).2.1 := by decide +kernel
theorem tyX4_ok : ∀ k, k < 8 → parseFieldDescriptor (TX4 k).2.2.1 = some (tyX4 k) := by decide +kernel
abbrev cX4_init : ByteArray := prog_10_method_1_code
def yX4_init : MethodName := ⟨RX4, "<init>", "([BI)V"⟩
def dkwX4_init_0 : List UInt8 := [42, 183, 0, 3, 42, 43, 181, 0, 9, 42, 28, 181, 0, 15, 177]
abbrev dktX4_init_0 : List UInt8 := dkwX4_init_0 ++ []
theorem dksX4_init_0 : cX4_init.data.toList.drop 0 = dktX4_init_0 := by decide +kernel
theorem dX4_init_0 : decode cX4_init 0 = .ok (.aload_n 0, 1) := dk_42 (dk_at dksX4_init_0 0 rfl rfl)
theorem dX4_init_1 : decode cX4_init 1 = .ok (.invokespecial 3, 3) := dk_183 0 3 (dk_at dksX4_init_0 1 rfl rfl)
theorem dX4_init_4 : decode cX4_init 4 = .ok (.aload_n 0, 1) := dk_42 (dk_at dksX4_init_0 4 rfl rfl)
theorem dX4_init_5 : decode cX4_init 5 = .ok (.aload_n 1, 1) := dk_43 (dk_at dksX4_init_0 5 rfl rfl)
theorem dX4_init_6 : decode cX4_init 6 = .ok (.putfield 9, 3) := dk_181 0 9 (dk_at dksX4_init_0 6 rfl rfl)
theorem dX4_init_9 : decode cX4_init 9 = .ok (.aload_n 0, 1) := dk_42 (dk_at dksX4_init_0 9 rfl rfl)
theorem dX4_init_10 : decode cX4_init 10 = .ok (.iload_n 2, 1) := dk_28 (dk_at dksX4_init_0 10 rfl rfl)
theorem dX4_init_11 : decode cX4_init 11 = .ok (.putfield 15, 3) := dk_181 0 15 (dk_at dksX4_init_0 11 rfl rfl)
theorem dX4_init_14 : decode cX4_init 14 = .ok (.return_, 1) := dk_177 (dk_at dksX4_init_0 14 rfl rfl)
abbrev cX4_read : ByteArray := prog_10_method_19_code
def yX4_read : MethodName := ⟨RX4, "read", "()LPlyHouse$Grades;"⟩
def dkwX4_read_5 : List UInt8 := [182, 0, 108, 43, 89, 180, 0, 154, 4, 96, 181, 0, 154, 167, 255, 141, 43, 176]
abbrev dktX4_read_5 : List UInt8 := dkwX4_read_5 ++ []
def dkwX4_read_4 : List UInt8 := [153, 0, 20, 42, 182, 0, 69, 43, 180, 0, 175, 43, 180, 0, 154, 42, 182, 0, 105, 83, 42, 16, 59]
abbrev dktX4_read_4 : List UInt8 := dkwX4_read_4 ++ dktX4_read_5
def dkwX4_read_3 : List UInt8 := [180, 0, 170, 43, 180, 0, 154, 42, 4, 17, 39, 15, 182, 0, 161, 79, 42, 18, 173, 182, 0, 72]
abbrev dktX4_read_3 : List UInt8 := dkwX4_read_3 ++ dktX4_read_4
def dkwX4_read_2 : List UInt8 := [43, 180, 0, 157, 43, 180, 0, 154, 42, 4, 16, 100, 182, 0, 161, 79, 42, 18, 164, 182, 0, 166, 43]
abbrev dktX4_read_2 : List UInt8 := dkwX4_read_2 ++ dktX4_read_3
def dkwX4_read_1 : List UInt8 := [182, 0, 72, 153, 0, 12, 43, 180, 0, 154, 16, 8, 160, 0, 8, 42, 182, 0, 65, 191, 42, 182, 0, 69]
abbrev dktX4_read_1 : List UInt8 := dkwX4_read_1 ++ dktX4_read_2
def dkwX4_read_0 : List UInt8 := [187, 0, 149, 89, 183, 0, 151, 76, 42, 182, 0, 69, 42, 180, 0, 29, 153, 0, 114, 42, 18, 152]
abbrev dktX4_read_0 : List UInt8 := dkwX4_read_0 ++ dktX4_read_1
theorem dksX4_read_0 : cX4_read.data.toList.drop 0 = dktX4_read_0 := by decide +kernel
theorem dksX4_read_1 : cX4_read.data.toList.drop 22 = dktX4_read_1 := dk_seg dksX4_read_0 22 rfl rfl
theorem dksX4_read_2 : cX4_read.data.toList.drop 46 = dktX4_read_2 := dk_seg dksX4_read_1 24 rfl rfl
theorem dksX4_read_3 : cX4_read.data.toList.drop 69 = dktX4_read_3 := dk_seg dksX4_read_2 23 rfl rfl
theorem dksX4_read_4 : cX4_read.data.toList.drop 91 = dktX4_read_4 := dk_seg dksX4_read_3 22 rfl rfl
theorem dksX4_read_5 : cX4_read.data.toList.drop 114 = dktX4_read_5 := dk_seg dksX4_read_4 23 rfl rfl
theorem dX4_read_0 : decode cX4_read 0 = .ok (.new 149, 3) := dk_187 0 149 (dk_at dksX4_read_0 0 rfl rfl)
theorem dX4_read_3 : decode cX4_read 3 = .ok (.dup, 1) := dk_89 (dk_at dksX4_read_0 3 rfl rfl)
theorem dX4_read_4 : decode cX4_read 4 = .ok (.invokespecial 151, 3) := dk_183 0 151 (dk_at dksX4_read_0 4 rfl rfl)
theorem dX4_read_7 : decode cX4_read 7 = .ok (.astore_n 1, 1) := dk_76 (dk_at dksX4_read_0 7 rfl rfl)
theorem dX4_read_8 : decode cX4_read 8 = .ok (.aload_n 0, 1) := dk_42 (dk_at dksX4_read_0 8 rfl rfl)
theorem dX4_read_9 : decode cX4_read 9 = .ok (.invokevirtual 69, 3) := dk_182 0 69 (dk_at dksX4_read_0 9 rfl rfl)
theorem dX4_read_12 : decode cX4_read 12 = .ok (.aload_n 0, 1) := dk_42 (dk_at dksX4_read_0 12 rfl rfl)
theorem dX4_read_13 : decode cX4_read 13 = .ok (.getfield 29, 3) := dk_180 0 29 (dk_at dksX4_read_0 13 rfl rfl)
theorem dX4_read_16 : decode cX4_read 16 = .ok (.ifCond .eq 114, 3) := dk_153 0 114 (dk_at dksX4_read_0 16 rfl rfl)
theorem dX4_read_19 : decode cX4_read 19 = .ok (.aload_n 0, 1) := dk_42 (dk_at dksX4_read_0 19 rfl rfl)
theorem dX4_read_20 : decode cX4_read 20 = .ok (.ldc 152, 2) := dk_18 152 (dk_at dksX4_read_0 20 rfl rfl)
theorem dX4_read_22 : decode cX4_read 22 = .ok (.invokevirtual 72, 3) := dk_182 0 72 (dk_at dksX4_read_1 0 rfl rfl)
theorem dX4_read_25 : decode cX4_read 25 = .ok (.ifCond .eq 12, 3) := dk_153 0 12 (dk_at dksX4_read_1 3 rfl rfl)
theorem dX4_read_28 : decode cX4_read 28 = .ok (.aload_n 1, 1) := dk_43 (dk_at dksX4_read_1 6 rfl rfl)
theorem dX4_read_29 : decode cX4_read 29 = .ok (.getfield 154, 3) := dk_180 0 154 (dk_at dksX4_read_1 7 rfl rfl)
theorem dX4_read_32 : decode cX4_read 32 = .ok (.bipush 8, 2) := dk_16 8 (dk_at dksX4_read_1 10 rfl rfl)
theorem dX4_read_34 : decode cX4_read 34 = .ok (.if_icmp .ne 8, 3) := dk_160 0 8 (dk_at dksX4_read_1 12 rfl rfl)
theorem dX4_read_37 : decode cX4_read 37 = .ok (.aload_n 0, 1) := dk_42 (dk_at dksX4_read_1 15 rfl rfl)
theorem dX4_read_38 : decode cX4_read 38 = .ok (.invokevirtual 65, 3) := dk_182 0 65 (dk_at dksX4_read_1 16 rfl rfl)
theorem dX4_read_41 : decode cX4_read 41 = .ok (.athrow, 1) := dk_191 (dk_at dksX4_read_1 19 rfl rfl)
theorem dX4_read_42 : decode cX4_read 42 = .ok (.aload_n 0, 1) := dk_42 (dk_at dksX4_read_1 20 rfl rfl)
theorem dX4_read_43 : decode cX4_read 43 = .ok (.invokevirtual 69, 3) := dk_182 0 69 (dk_at dksX4_read_1 21 rfl rfl)
theorem dX4_read_46 : decode cX4_read 46 = .ok (.aload_n 1, 1) := dk_43 (dk_at dksX4_read_2 0 rfl rfl)
theorem dX4_read_47 : decode cX4_read 47 = .ok (.getfield 157, 3) := dk_180 0 157 (dk_at dksX4_read_2 1 rfl rfl)
theorem dX4_read_50 : decode cX4_read 50 = .ok (.aload_n 1, 1) := dk_43 (dk_at dksX4_read_2 4 rfl rfl)
theorem dX4_read_51 : decode cX4_read 51 = .ok (.getfield 154, 3) := dk_180 0 154 (dk_at dksX4_read_2 5 rfl rfl)
theorem dX4_read_54 : decode cX4_read 54 = .ok (.aload_n 0, 1) := dk_42 (dk_at dksX4_read_2 8 rfl rfl)
theorem dX4_read_55 : decode cX4_read 55 = .ok (.iconst 1, 1) := dk_4 (dk_at dksX4_read_2 9 rfl rfl)
theorem dX4_read_56 : decode cX4_read 56 = .ok (.bipush 100, 2) := dk_16 100 (dk_at dksX4_read_2 10 rfl rfl)
theorem dX4_read_58 : decode cX4_read 58 = .ok (.invokevirtual 161, 3) := dk_182 0 161 (dk_at dksX4_read_2 12 rfl rfl)
theorem dX4_read_61 : decode cX4_read 61 = .ok (.iastore, 1) := dk_79 (dk_at dksX4_read_2 15 rfl rfl)
theorem dX4_read_62 : decode cX4_read 62 = .ok (.aload_n 0, 1) := dk_42 (dk_at dksX4_read_2 16 rfl rfl)
theorem dX4_read_63 : decode cX4_read 63 = .ok (.ldc 164, 2) := dk_18 164 (dk_at dksX4_read_2 17 rfl rfl)
theorem dX4_read_65 : decode cX4_read 65 = .ok (.invokevirtual 166, 3) := dk_182 0 166 (dk_at dksX4_read_2 19 rfl rfl)
theorem dX4_read_68 : decode cX4_read 68 = .ok (.aload_n 1, 1) := dk_43 (dk_at dksX4_read_2 22 rfl rfl)
theorem dX4_read_69 : decode cX4_read 69 = .ok (.getfield 170, 3) := dk_180 0 170 (dk_at dksX4_read_3 0 rfl rfl)
theorem dX4_read_72 : decode cX4_read 72 = .ok (.aload_n 1, 1) := dk_43 (dk_at dksX4_read_3 3 rfl rfl)
theorem dX4_read_73 : decode cX4_read 73 = .ok (.getfield 154, 3) := dk_180 0 154 (dk_at dksX4_read_3 4 rfl rfl)
theorem dX4_read_76 : decode cX4_read 76 = .ok (.aload_n 0, 1) := dk_42 (dk_at dksX4_read_3 7 rfl rfl)
theorem dX4_read_77 : decode cX4_read 77 = .ok (.iconst 1, 1) := dk_4 (dk_at dksX4_read_3 8 rfl rfl)
theorem dX4_read_78 : decode cX4_read 78 = .ok (.sipush 9999, 3) := dk_17 39 15 (dk_at dksX4_read_3 9 rfl rfl)
theorem dX4_read_81 : decode cX4_read 81 = .ok (.invokevirtual 161, 3) := dk_182 0 161 (dk_at dksX4_read_3 12 rfl rfl)
theorem dX4_read_84 : decode cX4_read 84 = .ok (.iastore, 1) := dk_79 (dk_at dksX4_read_3 15 rfl rfl)
theorem dX4_read_85 : decode cX4_read 85 = .ok (.aload_n 0, 1) := dk_42 (dk_at dksX4_read_3 16 rfl rfl)
theorem dX4_read_86 : decode cX4_read 86 = .ok (.ldc 173, 2) := dk_18 173 (dk_at dksX4_read_3 17 rfl rfl)
theorem dX4_read_88 : decode cX4_read 88 = .ok (.invokevirtual 72, 3) := dk_182 0 72 (dk_at dksX4_read_3 19 rfl rfl)
theorem dX4_read_91 : decode cX4_read 91 = .ok (.ifCond .eq 20, 3) := dk_153 0 20 (dk_at dksX4_read_4 0 rfl rfl)
theorem dX4_read_94 : decode cX4_read 94 = .ok (.aload_n 0, 1) := dk_42 (dk_at dksX4_read_4 3 rfl rfl)
theorem dX4_read_95 : decode cX4_read 95 = .ok (.invokevirtual 69, 3) := dk_182 0 69 (dk_at dksX4_read_4 4 rfl rfl)
theorem dX4_read_98 : decode cX4_read 98 = .ok (.aload_n 1, 1) := dk_43 (dk_at dksX4_read_4 7 rfl rfl)
theorem dX4_read_99 : decode cX4_read 99 = .ok (.getfield 175, 3) := dk_180 0 175 (dk_at dksX4_read_4 8 rfl rfl)
theorem dX4_read_102 : decode cX4_read 102 = .ok (.aload_n 1, 1) := dk_43 (dk_at dksX4_read_4 11 rfl rfl)
theorem dX4_read_103 : decode cX4_read 103 = .ok (.getfield 154, 3) := dk_180 0 154 (dk_at dksX4_read_4 12 rfl rfl)
theorem dX4_read_106 : decode cX4_read 106 = .ok (.aload_n 0, 1) := dk_42 (dk_at dksX4_read_4 15 rfl rfl)
theorem dX4_read_107 : decode cX4_read 107 = .ok (.invokevirtual 105, 3) := dk_182 0 105 (dk_at dksX4_read_4 16 rfl rfl)
theorem dX4_read_110 : decode cX4_read 110 = .ok (.aastore, 1) := dk_83 (dk_at dksX4_read_4 19 rfl rfl)
theorem dX4_read_111 : decode cX4_read 111 = .ok (.aload_n 0, 1) := dk_42 (dk_at dksX4_read_4 20 rfl rfl)
theorem dX4_read_112 : decode cX4_read 112 = .ok (.bipush 59, 2) := dk_16 59 (dk_at dksX4_read_4 21 rfl rfl)
theorem dX4_read_114 : decode cX4_read 114 = .ok (.invokevirtual 108, 3) := dk_182 0 108 (dk_at dksX4_read_5 0 rfl rfl)
theorem dX4_read_117 : decode cX4_read 117 = .ok (.aload_n 1, 1) := dk_43 (dk_at dksX4_read_5 3 rfl rfl)
theorem dX4_read_118 : decode cX4_read 118 = .ok (.dup, 1) := dk_89 (dk_at dksX4_read_5 4 rfl rfl)
theorem dX4_read_119 : decode cX4_read 119 = .ok (.getfield 154, 3) := dk_180 0 154 (dk_at dksX4_read_5 5 rfl rfl)
theorem dX4_read_122 : decode cX4_read 122 = .ok (.iconst 1, 1) := dk_4 (dk_at dksX4_read_5 8 rfl rfl)
theorem dX4_read_123 : decode cX4_read 123 = .ok (.iadd, 1) := dk_96 (dk_at dksX4_read_5 9 rfl rfl)
theorem dX4_read_124 : decode cX4_read 124 = .ok (.putfield 154, 3) := dk_181 0 154 (dk_at dksX4_read_5 10 rfl rfl)
theorem dX4_read_127 : decode cX4_read 127 = .ok (.goto (-115), 3) := dk_167 255 141 (dk_at dksX4_read_5 13 rfl rfl)
theorem dX4_read_130 : decode cX4_read 130 = .ok (.aload_n 1, 1) := dk_43 (dk_at dksX4_read_5 16 rfl rfl)
theorem dX4_read_131 : decode cX4_read 131 = .ok (.areturn, 1) := dk_176 (dk_at dksX4_read_5 17 rfl rfl)
abbrev cX4_next : ByteArray := prog_10_method_5_code
def yX4_next : MethodName := ⟨RX4, "next", "()V"⟩
def dkwX4_next_14 : List UInt8 := [182, 0, 49, 156, 0, 16, 187, 0, 36, 89, 4, 42, 180, 0, 22, 183, 0, 38, 191, 177]
abbrev dktX4_next_14 : List UInt8 := dkwX4_next_14 ++ []
def dkwX4_next_13 : List UInt8 := [153, 0, 43, 187, 0, 36, 89, 4, 42, 180, 0, 22, 183, 0, 38, 191, 42, 6, 181, 0, 29, 18, 47, 27]
abbrev dktX4_next_13 : List UInt8 := dkwX4_next_13 ++ dktX4_next_14
def dkwX4_next_12 : List UInt8 := [180, 0, 19, 42, 180, 0, 22, 100, 7, 163, 0, 17, 42, 42, 180, 0, 19, 182, 0, 25, 184, 0, 32]
abbrev dktX4_next_12 : List UInt8 := dkwX4_next_12 ++ dktX4_next_13
def dkwX4_next_11 : List UInt8 := [167, 0, 7, 42, 180, 0, 44, 181, 0, 44, 42, 89, 180, 0, 19, 4, 96, 181, 0, 19, 167, 255, 189, 42]
abbrev dktX4_next_11 : List UInt8 := dkwX4_next_11 ++ dktX4_next_12
def dkwX4_next_10 : List UInt8 := [162, 0, 25, 16, 10, 42, 180, 0, 44, 104, 42, 42, 180, 0, 19, 182, 0, 25, 96, 16, 48, 100]
abbrev dktX4_next_10 : List UInt8 := dkwX4_next_10 ++ dktX4_next_11
def dkwX4_next_9 : List UInt8 := [180, 0, 19, 182, 0, 25, 184, 0, 41, 153, 0, 59, 42, 42, 180, 0, 19, 42, 180, 0, 22, 100, 7]
abbrev dktX4_next_9 : List UInt8 := dkwX4_next_9 ++ dktX4_next_10
def dkwX4_next_8 : List UInt8 := [153, 0, 131, 42, 5, 181, 0, 29, 42, 3, 181, 0, 44, 42, 42, 180, 0, 22, 181, 0, 19, 42, 42]
abbrev dktX4_next_8 : List UInt8 := dkwX4_next_8 ++ dktX4_next_9
def dkwX4_next_7 : List UInt8 := [100, 16, 8, 164, 0, 178, 187, 0, 36, 89, 4, 42, 180, 0, 22, 183, 0, 38, 191, 27, 184, 0, 41]
abbrev dktX4_next_7 : List UInt8 := dkwX4_next_7 ++ dktX4_next_8
def dkwX4_next_6 : List UInt8 := [180, 0, 19, 4, 96, 181, 0, 19, 167, 255, 232, 42, 4, 181, 0, 29, 42, 180, 0, 19, 42, 180, 0, 22]
abbrev dktX4_next_6 : List UInt8 := dkwX4_next_6 ++ dktX4_next_7
def dkwX4_next_5 : List UInt8 := [184, 0, 32, 153, 0, 62, 42, 42, 180, 0, 19, 182, 0, 25, 184, 0, 32, 153, 0, 16, 42, 89]
abbrev dktX4_next_5 : List UInt8 := dkwX4_next_5 ++ dktX4_next_6
def dkwX4_next_4 : List UInt8 := [181, 0, 19, 42, 180, 0, 22, 42, 180, 0, 15, 161, 0, 11, 42, 3, 181, 0, 29, 167, 0, 231, 27]
abbrev dktX4_next_4 : List UInt8 := dkwX4_next_4 ++ dktX4_next_5
def dkwX4_next_3 : List UInt8 := [180, 0, 22, 42, 180, 0, 15, 162, 0, 12, 42, 180, 0, 22, 4, 96, 167, 0, 7, 42, 180, 0, 22]
abbrev dktX4_next_3 : List UInt8 := dkwX4_next_3 ++ dktX4_next_4
def dkwX4_next_2 : List UInt8 := [180, 0, 22, 4, 96, 181, 0, 22, 167, 255, 209, 42, 42, 180, 0, 22, 182, 0, 25, 60, 42, 42]
abbrev dktX4_next_2 : List UInt8 := dkwX4_next_2 ++ dktX4_next_3
def dkwX4_next_1 : List UInt8 := [182, 0, 25, 16, 32, 159, 0, 16, 42, 42, 180, 0, 22, 182, 0, 25, 16, 10, 160, 0, 16, 42, 89]
abbrev dktX4_next_1 : List UInt8 := dkwX4_next_1 ++ dktX4_next_2
def dkwX4_next_0 : List UInt8 := [42, 42, 180, 0, 19, 181, 0, 22, 42, 180, 0, 22, 42, 180, 0, 15, 162, 0, 42, 42, 42, 180, 0, 22]
abbrev dktX4_next_0 : List UInt8 := dkwX4_next_0 ++ dktX4_next_1
theorem dksX4_next_0 : cX4_next.data.toList.drop 0 = dktX4_next_0 := by decide +kernel
theorem dksX4_next_1 : cX4_next.data.toList.drop 24 = dktX4_next_1 := dk_seg dksX4_next_0 24 rfl rfl
theorem dksX4_next_2 : cX4_next.data.toList.drop 47 = dktX4_next_2 := dk_seg dksX4_next_1 23 rfl rfl
theorem dksX4_next_3 : cX4_next.data.toList.drop 69 = dktX4_next_3 := dk_seg dksX4_next_2 22 rfl rfl
theorem dksX4_next_4 : cX4_next.data.toList.drop 92 = dktX4_next_4 := dk_seg dksX4_next_3 23 rfl rfl
theorem dksX4_next_5 : cX4_next.data.toList.drop 115 = dktX4_next_5 := dk_seg dksX4_next_4 23 rfl rfl
theorem dksX4_next_6 : cX4_next.data.toList.drop 137 = dktX4_next_6 := dk_seg dksX4_next_5 22 rfl rfl
theorem dksX4_next_7 : cX4_next.data.toList.drop 161 = dktX4_next_7 := dk_seg dksX4_next_6 24 rfl rfl
theorem dksX4_next_8 : cX4_next.data.toList.drop 184 = dktX4_next_8 := dk_seg dksX4_next_7 23 rfl rfl
theorem dksX4_next_9 : cX4_next.data.toList.drop 207 = dktX4_next_9 := dk_seg dksX4_next_8 23 rfl rfl
theorem dksX4_next_10 : cX4_next.data.toList.drop 230 = dktX4_next_10 := dk_seg dksX4_next_9 23 rfl rfl
theorem dksX4_next_11 : cX4_next.data.toList.drop 252 = dktX4_next_11 := dk_seg dksX4_next_10 22 rfl rfl
theorem dksX4_next_12 : cX4_next.data.toList.drop 276 = dktX4_next_12 := dk_seg dksX4_next_11 24 rfl rfl
theorem dksX4_next_13 : cX4_next.data.toList.drop 299 = dktX4_next_13 := dk_seg dksX4_next_12 23 rfl rfl
theorem dksX4_next_14 : cX4_next.data.toList.drop 323 = dktX4_next_14 := dk_seg dksX4_next_13 24 rfl rfl
theorem dX4_next_0 : decode cX4_next 0 = .ok (.aload_n 0, 1) := dk_42 (dk_at dksX4_next_0 0 rfl rfl)
theorem dX4_next_1 : decode cX4_next 1 = .ok (.aload_n 0, 1) := dk_42 (dk_at dksX4_next_0 1 rfl rfl)
theorem dX4_next_2 : decode cX4_next 2 = .ok (.getfield 19, 3) := dk_180 0 19 (dk_at dksX4_next_0 2 rfl rfl)
theorem dX4_next_5 : decode cX4_next 5 = .ok (.putfield 22, 3) := dk_181 0 22 (dk_at dksX4_next_0 5 rfl rfl)
theorem dX4_next_8 : decode cX4_next 8 = .ok (.aload_n 0, 1) := dk_42 (dk_at dksX4_next_0 8 rfl rfl)
theorem dX4_next_9 : decode cX4_next 9 = .ok (.getfield 22, 3) := dk_180 0 22 (dk_at dksX4_next_0 9 rfl rfl)
theorem dX4_next_12 : decode cX4_next 12 = .ok (.aload_n 0, 1) := dk_42 (dk_at dksX4_next_0 12 rfl rfl)
theorem dX4_next_13 : decode cX4_next 13 = .ok (.getfield 15, 3) := dk_180 0 15 (dk_at dksX4_next_0 13 rfl rfl)
theorem dX4_next_16 : decode cX4_next 16 = .ok (.if_icmp .ge 42, 3) := dk_162 0 42 (dk_at dksX4_next_0 16 rfl rfl)
theorem dX4_next_19 : decode cX4_next 19 = .ok (.aload_n 0, 1) := dk_42 (dk_at dksX4_next_0 19 rfl rfl)
theorem dX4_next_20 : decode cX4_next 20 = .ok (.aload_n 0, 1) := dk_42 (dk_at dksX4_next_0 20 rfl rfl)
theorem dX4_next_21 : decode cX4_next 21 = .ok (.getfield 22, 3) := dk_180 0 22 (dk_at dksX4_next_0 21 rfl rfl)
theorem dX4_next_24 : decode cX4_next 24 = .ok (.invokevirtual 25, 3) := dk_182 0 25 (dk_at dksX4_next_1 0 rfl rfl)
theorem dX4_next_27 : decode cX4_next 27 = .ok (.bipush 32, 2) := dk_16 32 (dk_at dksX4_next_1 3 rfl rfl)
theorem dX4_next_29 : decode cX4_next 29 = .ok (.if_icmp .eq 16, 3) := dk_159 0 16 (dk_at dksX4_next_1 5 rfl rfl)
theorem dX4_next_32 : decode cX4_next 32 = .ok (.aload_n 0, 1) := dk_42 (dk_at dksX4_next_1 8 rfl rfl)
theorem dX4_next_33 : decode cX4_next 33 = .ok (.aload_n 0, 1) := dk_42 (dk_at dksX4_next_1 9 rfl rfl)
theorem dX4_next_34 : decode cX4_next 34 = .ok (.getfield 22, 3) := dk_180 0 22 (dk_at dksX4_next_1 10 rfl rfl)
theorem dX4_next_37 : decode cX4_next 37 = .ok (.invokevirtual 25, 3) := dk_182 0 25 (dk_at dksX4_next_1 13 rfl rfl)
theorem dX4_next_40 : decode cX4_next 40 = .ok (.bipush 10, 2) := dk_16 10 (dk_at dksX4_next_1 16 rfl rfl)
theorem dX4_next_42 : decode cX4_next 42 = .ok (.if_icmp .ne 16, 3) := dk_160 0 16 (dk_at dksX4_next_1 18 rfl rfl)
theorem dX4_next_45 : decode cX4_next 45 = .ok (.aload_n 0, 1) := dk_42 (dk_at dksX4_next_1 21 rfl rfl)
theorem dX4_next_46 : decode cX4_next 46 = .ok (.dup, 1) := dk_89 (dk_at dksX4_next_1 22 rfl rfl)
theorem dX4_next_47 : decode cX4_next 47 = .ok (.getfield 22, 3) := dk_180 0 22 (dk_at dksX4_next_2 0 rfl rfl)
theorem dX4_next_50 : decode cX4_next 50 = .ok (.iconst 1, 1) := dk_4 (dk_at dksX4_next_2 3 rfl rfl)
theorem dX4_next_51 : decode cX4_next 51 = .ok (.iadd, 1) := dk_96 (dk_at dksX4_next_2 4 rfl rfl)
theorem dX4_next_52 : decode cX4_next 52 = .ok (.putfield 22, 3) := dk_181 0 22 (dk_at dksX4_next_2 5 rfl rfl)
theorem dX4_next_55 : decode cX4_next 55 = .ok (.goto (-47), 3) := dk_167 255 209 (dk_at dksX4_next_2 8 rfl rfl)
theorem dX4_next_58 : decode cX4_next 58 = .ok (.aload_n 0, 1) := dk_42 (dk_at dksX4_next_2 11 rfl rfl)
theorem dX4_next_59 : decode cX4_next 59 = .ok (.aload_n 0, 1) := dk_42 (dk_at dksX4_next_2 12 rfl rfl)
theorem dX4_next_60 : decode cX4_next 60 = .ok (.getfield 22, 3) := dk_180 0 22 (dk_at dksX4_next_2 13 rfl rfl)
theorem dX4_next_63 : decode cX4_next 63 = .ok (.invokevirtual 25, 3) := dk_182 0 25 (dk_at dksX4_next_2 16 rfl rfl)
theorem dX4_next_66 : decode cX4_next 66 = .ok (.istore_n 1, 1) := dk_60 (dk_at dksX4_next_2 19 rfl rfl)
theorem dX4_next_67 : decode cX4_next 67 = .ok (.aload_n 0, 1) := dk_42 (dk_at dksX4_next_2 20 rfl rfl)
theorem dX4_next_68 : decode cX4_next 68 = .ok (.aload_n 0, 1) := dk_42 (dk_at dksX4_next_2 21 rfl rfl)
theorem dX4_next_69 : decode cX4_next 69 = .ok (.getfield 22, 3) := dk_180 0 22 (dk_at dksX4_next_3 0 rfl rfl)
theorem dX4_next_72 : decode cX4_next 72 = .ok (.aload_n 0, 1) := dk_42 (dk_at dksX4_next_3 3 rfl rfl)
theorem dX4_next_73 : decode cX4_next 73 = .ok (.getfield 15, 3) := dk_180 0 15 (dk_at dksX4_next_3 4 rfl rfl)
theorem dX4_next_76 : decode cX4_next 76 = .ok (.if_icmp .ge 12, 3) := dk_162 0 12 (dk_at dksX4_next_3 7 rfl rfl)
theorem dX4_next_79 : decode cX4_next 79 = .ok (.aload_n 0, 1) := dk_42 (dk_at dksX4_next_3 10 rfl rfl)
theorem dX4_next_80 : decode cX4_next 80 = .ok (.getfield 22, 3) := dk_180 0 22 (dk_at dksX4_next_3 11 rfl rfl)
theorem dX4_next_83 : decode cX4_next 83 = .ok (.iconst 1, 1) := dk_4 (dk_at dksX4_next_3 14 rfl rfl)
theorem dX4_next_84 : decode cX4_next 84 = .ok (.iadd, 1) := dk_96 (dk_at dksX4_next_3 15 rfl rfl)
theorem dX4_next_85 : decode cX4_next 85 = .ok (.goto 7, 3) := dk_167 0 7 (dk_at dksX4_next_3 16 rfl rfl)
theorem dX4_next_88 : decode cX4_next 88 = .ok (.aload_n 0, 1) := dk_42 (dk_at dksX4_next_3 19 rfl rfl)
theorem dX4_next_89 : decode cX4_next 89 = .ok (.getfield 22, 3) := dk_180 0 22 (dk_at dksX4_next_3 20 rfl rfl)
theorem dX4_next_92 : decode cX4_next 92 = .ok (.putfield 19, 3) := dk_181 0 19 (dk_at dksX4_next_4 0 rfl rfl)
theorem dX4_next_95 : decode cX4_next 95 = .ok (.aload_n 0, 1) := dk_42 (dk_at dksX4_next_4 3 rfl rfl)
theorem dX4_next_96 : decode cX4_next 96 = .ok (.getfield 22, 3) := dk_180 0 22 (dk_at dksX4_next_4 4 rfl rfl)
theorem dX4_next_99 : decode cX4_next 99 = .ok (.aload_n 0, 1) := dk_42 (dk_at dksX4_next_4 7 rfl rfl)
theorem dX4_next_100 : decode cX4_next 100 = .ok (.getfield 15, 3) := dk_180 0 15 (dk_at dksX4_next_4 8 rfl rfl)
theorem dX4_next_103 : decode cX4_next 103 = .ok (.if_icmp .lt 11, 3) := dk_161 0 11 (dk_at dksX4_next_4 11 rfl rfl)
theorem dX4_next_106 : decode cX4_next 106 = .ok (.aload_n 0, 1) := dk_42 (dk_at dksX4_next_4 14 rfl rfl)
theorem dX4_next_107 : decode cX4_next 107 = .ok (.iconst 0, 1) := dk_3 (dk_at dksX4_next_4 15 rfl rfl)
theorem dX4_next_108 : decode cX4_next 108 = .ok (.putfield 29, 3) := dk_181 0 29 (dk_at dksX4_next_4 16 rfl rfl)
theorem dX4_next_111 : decode cX4_next 111 = .ok (.goto 231, 3) := dk_167 0 231 (dk_at dksX4_next_4 19 rfl rfl)
theorem dX4_next_114 : decode cX4_next 114 = .ok (.iload_n 1, 1) := dk_27 (dk_at dksX4_next_4 22 rfl rfl)
theorem dX4_next_115 : decode cX4_next 115 = .ok (.invokestatic 32, 3) := dk_184 0 32 (dk_at dksX4_next_5 0 rfl rfl)
theorem dX4_next_118 : decode cX4_next 118 = .ok (.ifCond .eq 62, 3) := dk_153 0 62 (dk_at dksX4_next_5 3 rfl rfl)
theorem dX4_next_121 : decode cX4_next 121 = .ok (.aload_n 0, 1) := dk_42 (dk_at dksX4_next_5 6 rfl rfl)
theorem dX4_next_122 : decode cX4_next 122 = .ok (.aload_n 0, 1) := dk_42 (dk_at dksX4_next_5 7 rfl rfl)
theorem dX4_next_123 : decode cX4_next 123 = .ok (.getfield 19, 3) := dk_180 0 19 (dk_at dksX4_next_5 8 rfl rfl)
theorem dX4_next_126 : decode cX4_next 126 = .ok (.invokevirtual 25, 3) := dk_182 0 25 (dk_at dksX4_next_5 11 rfl rfl)
theorem dX4_next_129 : decode cX4_next 129 = .ok (.invokestatic 32, 3) := dk_184 0 32 (dk_at dksX4_next_5 14 rfl rfl)
theorem dX4_next_132 : decode cX4_next 132 = .ok (.ifCond .eq 16, 3) := dk_153 0 16 (dk_at dksX4_next_5 17 rfl rfl)
theorem dX4_next_135 : decode cX4_next 135 = .ok (.aload_n 0, 1) := dk_42 (dk_at dksX4_next_5 20 rfl rfl)
theorem dX4_next_136 : decode cX4_next 136 = .ok (.dup, 1) := dk_89 (dk_at dksX4_next_5 21 rfl rfl)
theorem dX4_next_137 : decode cX4_next 137 = .ok (.getfield 19, 3) := dk_180 0 19 (dk_at dksX4_next_6 0 rfl rfl)
theorem dX4_next_140 : decode cX4_next 140 = .ok (.iconst 1, 1) := dk_4 (dk_at dksX4_next_6 3 rfl rfl)
theorem dX4_next_141 : decode cX4_next 141 = .ok (.iadd, 1) := dk_96 (dk_at dksX4_next_6 4 rfl rfl)
theorem dX4_next_142 : decode cX4_next 142 = .ok (.putfield 19, 3) := dk_181 0 19 (dk_at dksX4_next_6 5 rfl rfl)
theorem dX4_next_145 : decode cX4_next 145 = .ok (.goto (-24), 3) := dk_167 255 232 (dk_at dksX4_next_6 8 rfl rfl)
theorem dX4_next_148 : decode cX4_next 148 = .ok (.aload_n 0, 1) := dk_42 (dk_at dksX4_next_6 11 rfl rfl)
theorem dX4_next_149 : decode cX4_next 149 = .ok (.iconst 1, 1) := dk_4 (dk_at dksX4_next_6 12 rfl rfl)
theorem dX4_next_150 : decode cX4_next 150 = .ok (.putfield 29, 3) := dk_181 0 29 (dk_at dksX4_next_6 13 rfl rfl)
theorem dX4_next_153 : decode cX4_next 153 = .ok (.aload_n 0, 1) := dk_42 (dk_at dksX4_next_6 16 rfl rfl)
theorem dX4_next_154 : decode cX4_next 154 = .ok (.getfield 19, 3) := dk_180 0 19 (dk_at dksX4_next_6 17 rfl rfl)
theorem dX4_next_157 : decode cX4_next 157 = .ok (.aload_n 0, 1) := dk_42 (dk_at dksX4_next_6 20 rfl rfl)
theorem dX4_next_158 : decode cX4_next 158 = .ok (.getfield 22, 3) := dk_180 0 22 (dk_at dksX4_next_6 21 rfl rfl)
theorem dX4_next_161 : decode cX4_next 161 = .ok (.isub, 1) := dk_100 (dk_at dksX4_next_7 0 rfl rfl)
theorem dX4_next_162 : decode cX4_next 162 = .ok (.bipush 8, 2) := dk_16 8 (dk_at dksX4_next_7 1 rfl rfl)
theorem dX4_next_164 : decode cX4_next 164 = .ok (.if_icmp .le 178, 3) := dk_164 0 178 (dk_at dksX4_next_7 3 rfl rfl)
theorem dX4_next_167 : decode cX4_next 167 = .ok (.new 36, 3) := dk_187 0 36 (dk_at dksX4_next_7 6 rfl rfl)
theorem dX4_next_170 : decode cX4_next 170 = .ok (.dup, 1) := dk_89 (dk_at dksX4_next_7 9 rfl rfl)
theorem dX4_next_171 : decode cX4_next 171 = .ok (.iconst 1, 1) := dk_4 (dk_at dksX4_next_7 10 rfl rfl)
theorem dX4_next_172 : decode cX4_next 172 = .ok (.aload_n 0, 1) := dk_42 (dk_at dksX4_next_7 11 rfl rfl)
theorem dX4_next_173 : decode cX4_next 173 = .ok (.getfield 22, 3) := dk_180 0 22 (dk_at dksX4_next_7 12 rfl rfl)
theorem dX4_next_176 : decode cX4_next 176 = .ok (.invokespecial 38, 3) := dk_183 0 38 (dk_at dksX4_next_7 15 rfl rfl)
theorem dX4_next_179 : decode cX4_next 179 = .ok (.athrow, 1) := dk_191 (dk_at dksX4_next_7 18 rfl rfl)
theorem dX4_next_180 : decode cX4_next 180 = .ok (.iload_n 1, 1) := dk_27 (dk_at dksX4_next_7 19 rfl rfl)
theorem dX4_next_181 : decode cX4_next 181 = .ok (.invokestatic 41, 3) := dk_184 0 41 (dk_at dksX4_next_7 20 rfl rfl)
theorem dX4_next_184 : decode cX4_next 184 = .ok (.ifCond .eq 131, 3) := dk_153 0 131 (dk_at dksX4_next_8 0 rfl rfl)
theorem dX4_next_187 : decode cX4_next 187 = .ok (.aload_n 0, 1) := dk_42 (dk_at dksX4_next_8 3 rfl rfl)
theorem dX4_next_188 : decode cX4_next 188 = .ok (.iconst 2, 1) := dk_5 (dk_at dksX4_next_8 4 rfl rfl)
theorem dX4_next_189 : decode cX4_next 189 = .ok (.putfield 29, 3) := dk_181 0 29 (dk_at dksX4_next_8 5 rfl rfl)
theorem dX4_next_192 : decode cX4_next 192 = .ok (.aload_n 0, 1) := dk_42 (dk_at dksX4_next_8 8 rfl rfl)
theorem dX4_next_193 : decode cX4_next 193 = .ok (.iconst 0, 1) := dk_3 (dk_at dksX4_next_8 9 rfl rfl)
theorem dX4_next_194 : decode cX4_next 194 = .ok (.putfield 44, 3) := dk_181 0 44 (dk_at dksX4_next_8 10 rfl rfl)
theorem dX4_next_197 : decode cX4_next 197 = .ok (.aload_n 0, 1) := dk_42 (dk_at dksX4_next_8 13 rfl rfl)
theorem dX4_next_198 : decode cX4_next 198 = .ok (.aload_n 0, 1) := dk_42 (dk_at dksX4_next_8 14 rfl rfl)
theorem dX4_next_199 : decode cX4_next 199 = .ok (.getfield 22, 3) := dk_180 0 22 (dk_at dksX4_next_8 15 rfl rfl)
theorem dX4_next_202 : decode cX4_next 202 = .ok (.putfield 19, 3) := dk_181 0 19 (dk_at dksX4_next_8 18 rfl rfl)
theorem dX4_next_205 : decode cX4_next 205 = .ok (.aload_n 0, 1) := dk_42 (dk_at dksX4_next_8 21 rfl rfl)
theorem dX4_next_206 : decode cX4_next 206 = .ok (.aload_n 0, 1) := dk_42 (dk_at dksX4_next_8 22 rfl rfl)
theorem dX4_next_207 : decode cX4_next 207 = .ok (.getfield 19, 3) := dk_180 0 19 (dk_at dksX4_next_9 0 rfl rfl)
theorem dX4_next_210 : decode cX4_next 210 = .ok (.invokevirtual 25, 3) := dk_182 0 25 (dk_at dksX4_next_9 3 rfl rfl)
theorem dX4_next_213 : decode cX4_next 213 = .ok (.invokestatic 41, 3) := dk_184 0 41 (dk_at dksX4_next_9 6 rfl rfl)
theorem dX4_next_216 : decode cX4_next 216 = .ok (.ifCond .eq 59, 3) := dk_153 0 59 (dk_at dksX4_next_9 9 rfl rfl)
theorem dX4_next_219 : decode cX4_next 219 = .ok (.aload_n 0, 1) := dk_42 (dk_at dksX4_next_9 12 rfl rfl)
theorem dX4_next_220 : decode cX4_next 220 = .ok (.aload_n 0, 1) := dk_42 (dk_at dksX4_next_9 13 rfl rfl)
theorem dX4_next_221 : decode cX4_next 221 = .ok (.getfield 19, 3) := dk_180 0 19 (dk_at dksX4_next_9 14 rfl rfl)
theorem dX4_next_224 : decode cX4_next 224 = .ok (.aload_n 0, 1) := dk_42 (dk_at dksX4_next_9 17 rfl rfl)
theorem dX4_next_225 : decode cX4_next 225 = .ok (.getfield 22, 3) := dk_180 0 22 (dk_at dksX4_next_9 18 rfl rfl)
theorem dX4_next_228 : decode cX4_next 228 = .ok (.isub, 1) := dk_100 (dk_at dksX4_next_9 21 rfl rfl)
theorem dX4_next_229 : decode cX4_next 229 = .ok (.iconst 4, 1) := dk_7 (dk_at dksX4_next_9 22 rfl rfl)
theorem dX4_next_230 : decode cX4_next 230 = .ok (.if_icmp .ge 25, 3) := dk_162 0 25 (dk_at dksX4_next_10 0 rfl rfl)
theorem dX4_next_233 : decode cX4_next 233 = .ok (.bipush 10, 2) := dk_16 10 (dk_at dksX4_next_10 3 rfl rfl)
theorem dX4_next_235 : decode cX4_next 235 = .ok (.aload_n 0, 1) := dk_42 (dk_at dksX4_next_10 5 rfl rfl)
theorem dX4_next_236 : decode cX4_next 236 = .ok (.getfield 44, 3) := dk_180 0 44 (dk_at dksX4_next_10 6 rfl rfl)
theorem dX4_next_239 : decode cX4_next 239 = .ok (.imul, 1) := dk_104 (dk_at dksX4_next_10 9 rfl rfl)
theorem dX4_next_240 : decode cX4_next 240 = .ok (.aload_n 0, 1) := dk_42 (dk_at dksX4_next_10 10 rfl rfl)
theorem dX4_next_241 : decode cX4_next 241 = .ok (.aload_n 0, 1) := dk_42 (dk_at dksX4_next_10 11 rfl rfl)
theorem dX4_next_242 : decode cX4_next 242 = .ok (.getfield 19, 3) := dk_180 0 19 (dk_at dksX4_next_10 12 rfl rfl)
theorem dX4_next_245 : decode cX4_next 245 = .ok (.invokevirtual 25, 3) := dk_182 0 25 (dk_at dksX4_next_10 15 rfl rfl)
theorem dX4_next_248 : decode cX4_next 248 = .ok (.iadd, 1) := dk_96 (dk_at dksX4_next_10 18 rfl rfl)
theorem dX4_next_249 : decode cX4_next 249 = .ok (.bipush 48, 2) := dk_16 48 (dk_at dksX4_next_10 19 rfl rfl)
theorem dX4_next_251 : decode cX4_next 251 = .ok (.isub, 1) := dk_100 (dk_at dksX4_next_10 21 rfl rfl)
theorem dX4_next_252 : decode cX4_next 252 = .ok (.goto 7, 3) := dk_167 0 7 (dk_at dksX4_next_11 0 rfl rfl)
theorem dX4_next_255 : decode cX4_next 255 = .ok (.aload_n 0, 1) := dk_42 (dk_at dksX4_next_11 3 rfl rfl)
theorem dX4_next_256 : decode cX4_next 256 = .ok (.getfield 44, 3) := dk_180 0 44 (dk_at dksX4_next_11 4 rfl rfl)
theorem dX4_next_259 : decode cX4_next 259 = .ok (.putfield 44, 3) := dk_181 0 44 (dk_at dksX4_next_11 7 rfl rfl)
theorem dX4_next_262 : decode cX4_next 262 = .ok (.aload_n 0, 1) := dk_42 (dk_at dksX4_next_11 10 rfl rfl)
theorem dX4_next_263 : decode cX4_next 263 = .ok (.dup, 1) := dk_89 (dk_at dksX4_next_11 11 rfl rfl)
theorem dX4_next_264 : decode cX4_next 264 = .ok (.getfield 19, 3) := dk_180 0 19 (dk_at dksX4_next_11 12 rfl rfl)
theorem dX4_next_267 : decode cX4_next 267 = .ok (.iconst 1, 1) := dk_4 (dk_at dksX4_next_11 15 rfl rfl)
theorem dX4_next_268 : decode cX4_next 268 = .ok (.iadd, 1) := dk_96 (dk_at dksX4_next_11 16 rfl rfl)
theorem dX4_next_269 : decode cX4_next 269 = .ok (.putfield 19, 3) := dk_181 0 19 (dk_at dksX4_next_11 17 rfl rfl)
theorem dX4_next_272 : decode cX4_next 272 = .ok (.goto (-67), 3) := dk_167 255 189 (dk_at dksX4_next_11 20 rfl rfl)
theorem dX4_next_275 : decode cX4_next 275 = .ok (.aload_n 0, 1) := dk_42 (dk_at dksX4_next_11 23 rfl rfl)
theorem dX4_next_276 : decode cX4_next 276 = .ok (.getfield 19, 3) := dk_180 0 19 (dk_at dksX4_next_12 0 rfl rfl)
theorem dX4_next_279 : decode cX4_next 279 = .ok (.aload_n 0, 1) := dk_42 (dk_at dksX4_next_12 3 rfl rfl)
theorem dX4_next_280 : decode cX4_next 280 = .ok (.getfield 22, 3) := dk_180 0 22 (dk_at dksX4_next_12 4 rfl rfl)
theorem dX4_next_283 : decode cX4_next 283 = .ok (.isub, 1) := dk_100 (dk_at dksX4_next_12 7 rfl rfl)
theorem dX4_next_284 : decode cX4_next 284 = .ok (.iconst 4, 1) := dk_7 (dk_at dksX4_next_12 8 rfl rfl)
theorem dX4_next_285 : decode cX4_next 285 = .ok (.if_icmp .gt 17, 3) := dk_163 0 17 (dk_at dksX4_next_12 9 rfl rfl)
theorem dX4_next_288 : decode cX4_next 288 = .ok (.aload_n 0, 1) := dk_42 (dk_at dksX4_next_12 12 rfl rfl)
theorem dX4_next_289 : decode cX4_next 289 = .ok (.aload_n 0, 1) := dk_42 (dk_at dksX4_next_12 13 rfl rfl)
theorem dX4_next_290 : decode cX4_next 290 = .ok (.getfield 19, 3) := dk_180 0 19 (dk_at dksX4_next_12 14 rfl rfl)
theorem dX4_next_293 : decode cX4_next 293 = .ok (.invokevirtual 25, 3) := dk_182 0 25 (dk_at dksX4_next_12 17 rfl rfl)
theorem dX4_next_296 : decode cX4_next 296 = .ok (.invokestatic 32, 3) := dk_184 0 32 (dk_at dksX4_next_12 20 rfl rfl)
theorem dX4_next_299 : decode cX4_next 299 = .ok (.ifCond .eq 43, 3) := dk_153 0 43 (dk_at dksX4_next_13 0 rfl rfl)
theorem dX4_next_302 : decode cX4_next 302 = .ok (.new 36, 3) := dk_187 0 36 (dk_at dksX4_next_13 3 rfl rfl)
theorem dX4_next_305 : decode cX4_next 305 = .ok (.dup, 1) := dk_89 (dk_at dksX4_next_13 6 rfl rfl)
theorem dX4_next_306 : decode cX4_next 306 = .ok (.iconst 1, 1) := dk_4 (dk_at dksX4_next_13 7 rfl rfl)
theorem dX4_next_307 : decode cX4_next 307 = .ok (.aload_n 0, 1) := dk_42 (dk_at dksX4_next_13 8 rfl rfl)
theorem dX4_next_308 : decode cX4_next 308 = .ok (.getfield 22, 3) := dk_180 0 22 (dk_at dksX4_next_13 9 rfl rfl)
theorem dX4_next_311 : decode cX4_next 311 = .ok (.invokespecial 38, 3) := dk_183 0 38 (dk_at dksX4_next_13 12 rfl rfl)
theorem dX4_next_314 : decode cX4_next 314 = .ok (.athrow, 1) := dk_191 (dk_at dksX4_next_13 15 rfl rfl)
theorem dX4_next_315 : decode cX4_next 315 = .ok (.aload_n 0, 1) := dk_42 (dk_at dksX4_next_13 16 rfl rfl)
theorem dX4_next_316 : decode cX4_next 316 = .ok (.iconst 3, 1) := dk_6 (dk_at dksX4_next_13 17 rfl rfl)
theorem dX4_next_317 : decode cX4_next 317 = .ok (.putfield 29, 3) := dk_181 0 29 (dk_at dksX4_next_13 18 rfl rfl)
theorem dX4_next_320 : decode cX4_next 320 = .ok (.ldc 47, 2) := dk_18 47 (dk_at dksX4_next_13 21 rfl rfl)
theorem dX4_next_322 : decode cX4_next 322 = .ok (.iload_n 1, 1) := dk_27 (dk_at dksX4_next_13 23 rfl rfl)
theorem dX4_next_323 : decode cX4_next 323 = .ok (.invokevirtual 49, 3) := dk_182 0 49 (dk_at dksX4_next_14 0 rfl rfl)
theorem dX4_next_326 : decode cX4_next 326 = .ok (.ifCond .ge 16, 3) := dk_156 0 16 (dk_at dksX4_next_14 3 rfl rfl)
theorem dX4_next_329 : decode cX4_next 329 = .ok (.new 36, 3) := dk_187 0 36 (dk_at dksX4_next_14 6 rfl rfl)
theorem dX4_next_332 : decode cX4_next 332 = .ok (.dup, 1) := dk_89 (dk_at dksX4_next_14 9 rfl rfl)
theorem dX4_next_333 : decode cX4_next 333 = .ok (.iconst 1, 1) := dk_4 (dk_at dksX4_next_14 10 rfl rfl)
theorem dX4_next_334 : decode cX4_next 334 = .ok (.aload_n 0, 1) := dk_42 (dk_at dksX4_next_14 11 rfl rfl)
theorem dX4_next_335 : decode cX4_next 335 = .ok (.getfield 22, 3) := dk_180 0 22 (dk_at dksX4_next_14 12 rfl rfl)
theorem dX4_next_338 : decode cX4_next 338 = .ok (.invokespecial 38, 3) := dk_183 0 38 (dk_at dksX4_next_14 15 rfl rfl)
theorem dX4_next_341 : decode cX4_next 341 = .ok (.athrow, 1) := dk_191 (dk_at dksX4_next_14 18 rfl rfl)
theorem dX4_next_342 : decode cX4_next 342 = .ok (.return_, 1) := dk_177 (dk_at dksX4_next_14 19 rfl rfl)
abbrev cX4_sign : ByteArray := prog_10_method_2_code
def yX4_sign : MethodName := ⟨RX4, "sign", "(I)I"⟩
def dkwX4_sign_0 : List UInt8 := [27, 42, 180, 0, 15, 162, 0, 16, 42, 180, 0, 9, 27, 51, 17, 0, 255, 126, 167, 0, 4, 3, 172]
abbrev dktX4_sign_0 : List UInt8 := dkwX4_sign_0 ++ []
theorem dksX4_sign_0 : cX4_sign.data.toList.drop 0 = dktX4_sign_0 := by decide +kernel
theorem dX4_sign_0 : decode cX4_sign 0 = .ok (.iload_n 1, 1) := dk_27 (dk_at dksX4_sign_0 0 rfl rfl)
theorem dX4_sign_1 : decode cX4_sign 1 = .ok (.aload_n 0, 1) := dk_42 (dk_at dksX4_sign_0 1 rfl rfl)
theorem dX4_sign_2 : decode cX4_sign 2 = .ok (.getfield 15, 3) := dk_180 0 15 (dk_at dksX4_sign_0 2 rfl rfl)
theorem dX4_sign_5 : decode cX4_sign 5 = .ok (.if_icmp .ge 16, 3) := dk_162 0 16 (dk_at dksX4_sign_0 5 rfl rfl)
theorem dX4_sign_8 : decode cX4_sign 8 = .ok (.aload_n 0, 1) := dk_42 (dk_at dksX4_sign_0 8 rfl rfl)
theorem dX4_sign_9 : decode cX4_sign 9 = .ok (.getfield 9, 3) := dk_180 0 9 (dk_at dksX4_sign_0 9 rfl rfl)
theorem dX4_sign_12 : decode cX4_sign 12 = .ok (.iload_n 1, 1) := dk_27 (dk_at dksX4_sign_0 12 rfl rfl)
theorem dX4_sign_13 : decode cX4_sign 13 = .ok (.baload, 1) := dk_51 (dk_at dksX4_sign_0 13 rfl rfl)
theorem dX4_sign_14 : decode cX4_sign 14 = .ok (.sipush 255, 3) := dk_17 0 255 (dk_at dksX4_sign_0 14 rfl rfl)
theorem dX4_sign_17 : decode cX4_sign 17 = .ok (.iand, 1) := dk_126 (dk_at dksX4_sign_0 17 rfl rfl)
theorem dX4_sign_18 : decode cX4_sign 18 = .ok (.goto 4, 3) := dk_167 0 4 (dk_at dksX4_sign_0 18 rfl rfl)
theorem dX4_sign_21 : decode cX4_sign 21 = .ok (.iconst 0, 1) := dk_3 (dk_at dksX4_sign_0 21 rfl rfl)
theorem dX4_sign_22 : decode cX4_sign 22 = .ok (.ireturn, 1) := dk_172 (dk_at dksX4_sign_0 22 rfl rfl)
abbrev cX4_isLetter : ByteArray := prog_10_method_3_code
def yX4_isLetter : MethodName := ⟨RX4, "isLetter", "(I)Z"⟩
def dkwX4_isLetter_0 : List UInt8 := [26, 16, 97, 161, 0, 13, 26, 16, 122, 163, 0, 7, 4, 167, 0, 4, 3, 172]
abbrev dktX4_isLetter_0 : List UInt8 := dkwX4_isLetter_0 ++ []
theorem dksX4_isLetter_0 : cX4_isLetter.data.toList.drop 0 = dktX4_isLetter_0 := by decide +kernel
theorem dX4_isLetter_0 : decode cX4_isLetter 0 = .ok (.iload_n 0, 1) := dk_26 (dk_at dksX4_isLetter_0 0 rfl rfl)
theorem dX4_isLetter_1 : decode cX4_isLetter 1 = .ok (.bipush 97, 2) := dk_16 97 (dk_at dksX4_isLetter_0 1 rfl rfl)
theorem dX4_isLetter_3 : decode cX4_isLetter 3 = .ok (.if_icmp .lt 13, 3) := dk_161 0 13 (dk_at dksX4_isLetter_0 3 rfl rfl)
theorem dX4_isLetter_6 : decode cX4_isLetter 6 = .ok (.iload_n 0, 1) := dk_26 (dk_at dksX4_isLetter_0 6 rfl rfl)
theorem dX4_isLetter_7 : decode cX4_isLetter 7 = .ok (.bipush 122, 2) := dk_16 122 (dk_at dksX4_isLetter_0 7 rfl rfl)
theorem dX4_isLetter_9 : decode cX4_isLetter 9 = .ok (.if_icmp .gt 7, 3) := dk_163 0 7 (dk_at dksX4_isLetter_0 9 rfl rfl)
theorem dX4_isLetter_12 : decode cX4_isLetter 12 = .ok (.iconst 1, 1) := dk_4 (dk_at dksX4_isLetter_0 12 rfl rfl)
theorem dX4_isLetter_13 : decode cX4_isLetter 13 = .ok (.goto 4, 3) := dk_167 0 4 (dk_at dksX4_isLetter_0 13 rfl rfl)
theorem dX4_isLetter_16 : decode cX4_isLetter 16 = .ok (.iconst 0, 1) := dk_3 (dk_at dksX4_isLetter_0 16 rfl rfl)
theorem dX4_isLetter_17 : decode cX4_isLetter 17 = .ok (.ireturn, 1) := dk_172 (dk_at dksX4_isLetter_0 17 rfl rfl)
abbrev cX4_isDigit : ByteArray := prog_10_method_4_code
def yX4_isDigit : MethodName := ⟨RX4, "isDigit", "(I)Z"⟩
def dkwX4_isDigit_0 : List UInt8 := [26, 16, 48, 161, 0, 13, 26, 16, 57, 163, 0, 7, 4, 167, 0, 4, 3, 172]
abbrev dktX4_isDigit_0 : List UInt8 := dkwX4_isDigit_0 ++ []
theorem dksX4_isDigit_0 : cX4_isDigit.data.toList.drop 0 = dktX4_isDigit_0 := by decide +kernel
theorem dX4_isDigit_0 : decode cX4_isDigit 0 = .ok (.iload_n 0, 1) := dk_26 (dk_at dksX4_isDigit_0 0 rfl rfl)
theorem dX4_isDigit_1 : decode cX4_isDigit 1 = .ok (.bipush 48, 2) := dk_16 48 (dk_at dksX4_isDigit_0 1 rfl rfl)
theorem dX4_isDigit_3 : decode cX4_isDigit 3 = .ok (.if_icmp .lt 13, 3) := dk_161 0 13 (dk_at dksX4_isDigit_0 3 rfl rfl)
theorem dX4_isDigit_6 : decode cX4_isDigit 6 = .ok (.iload_n 0, 1) := dk_26 (dk_at dksX4_isDigit_0 6 rfl rfl)
theorem dX4_isDigit_7 : decode cX4_isDigit 7 = .ok (.bipush 57, 2) := dk_16 57 (dk_at dksX4_isDigit_0 7 rfl rfl)
theorem dX4_isDigit_9 : decode cX4_isDigit 9 = .ok (.if_icmp .gt 7, 3) := dk_163 0 7 (dk_at dksX4_isDigit_0 9 rfl rfl)
theorem dX4_isDigit_12 : decode cX4_isDigit 12 = .ok (.iconst 1, 1) := dk_4 (dk_at dksX4_isDigit_0 12 rfl rfl)
theorem dX4_isDigit_13 : decode cX4_isDigit 13 = .ok (.goto 4, 3) := dk_167 0 4 (dk_at dksX4_isDigit_0 13 rfl rfl)
theorem dX4_isDigit_16 : decode cX4_isDigit 16 = .ok (.iconst 0, 1) := dk_3 (dk_at dksX4_isDigit_0 16 rfl rfl)
theorem dX4_isDigit_17 : decode cX4_isDigit 17 = .ok (.ireturn, 1) := dk_172 (dk_at dksX4_isDigit_0 17 rfl rfl)
abbrev cX4_isWord : ByteArray := prog_10_method_7_code
def yX4_isWord : MethodName := ⟨RX4, "isWord", "(Ljava/lang/String;)Z"⟩
def dkwX4_isWord_3 : List UInt8 := [3, 172]
abbrev dktX4_isWord_3 : List UInt8 := dkwX4_isWord_3 ++ []
def dkwX4_isWord_2 : List UInt8 := [182, 0, 58, 160, 0, 9, 132, 2, 1, 167, 255, 227, 28, 43, 182, 0, 54, 160, 0, 7, 4, 167, 0, 4]
abbrev dktX4_isWord_2 : List UInt8 := dkwX4_isWord_2 ++ dktX4_isWord_3
def dkwX4_isWord_1 : List UInt8 := [3, 172, 3, 61, 28, 43, 182, 0, 54, 162, 0, 27, 42, 42, 180, 0, 22, 28, 96, 182, 0, 25, 43, 28]
abbrev dktX4_isWord_1 : List UInt8 := dkwX4_isWord_1 ++ dktX4_isWord_2
def dkwX4_isWord_0 : List UInt8 := [42, 180, 0, 29, 4, 160, 0, 19, 42, 180, 0, 19, 42, 180, 0, 22, 100, 43, 182, 0, 54, 159, 0, 5]
abbrev dktX4_isWord_0 : List UInt8 := dkwX4_isWord_0 ++ dktX4_isWord_1
theorem dksX4_isWord_0 : cX4_isWord.data.toList.drop 0 = dktX4_isWord_0 := by decide +kernel
theorem dksX4_isWord_1 : cX4_isWord.data.toList.drop 24 = dktX4_isWord_1 := dk_seg dksX4_isWord_0 24 rfl rfl
theorem dksX4_isWord_2 : cX4_isWord.data.toList.drop 48 = dktX4_isWord_2 := dk_seg dksX4_isWord_1 24 rfl rfl
theorem dksX4_isWord_3 : cX4_isWord.data.toList.drop 72 = dktX4_isWord_3 := dk_seg dksX4_isWord_2 24 rfl rfl
theorem dX4_isWord_0 : decode cX4_isWord 0 = .ok (.aload_n 0, 1) := dk_42 (dk_at dksX4_isWord_0 0 rfl rfl)
theorem dX4_isWord_1 : decode cX4_isWord 1 = .ok (.getfield 29, 3) := dk_180 0 29 (dk_at dksX4_isWord_0 1 rfl rfl)
theorem dX4_isWord_4 : decode cX4_isWord 4 = .ok (.iconst 1, 1) := dk_4 (dk_at dksX4_isWord_0 4 rfl rfl)
theorem dX4_isWord_5 : decode cX4_isWord 5 = .ok (.if_icmp .ne 19, 3) := dk_160 0 19 (dk_at dksX4_isWord_0 5 rfl rfl)
theorem dX4_isWord_8 : decode cX4_isWord 8 = .ok (.aload_n 0, 1) := dk_42 (dk_at dksX4_isWord_0 8 rfl rfl)
theorem dX4_isWord_9 : decode cX4_isWord 9 = .ok (.getfield 19, 3) := dk_180 0 19 (dk_at dksX4_isWord_0 9 rfl rfl)
theorem dX4_isWord_12 : decode cX4_isWord 12 = .ok (.aload_n 0, 1) := dk_42 (dk_at dksX4_isWord_0 12 rfl rfl)
theorem dX4_isWord_13 : decode cX4_isWord 13 = .ok (.getfield 22, 3) := dk_180 0 22 (dk_at dksX4_isWord_0 13 rfl rfl)
theorem dX4_isWord_16 : decode cX4_isWord 16 = .ok (.isub, 1) := dk_100 (dk_at dksX4_isWord_0 16 rfl rfl)
theorem dX4_isWord_17 : decode cX4_isWord 17 = .ok (.aload_n 1, 1) := dk_43 (dk_at dksX4_isWord_0 17 rfl rfl)
theorem dX4_isWord_18 : decode cX4_isWord 18 = .ok (.invokevirtual 54, 3) := dk_182 0 54 (dk_at dksX4_isWord_0 18 rfl rfl)
theorem dX4_isWord_21 : decode cX4_isWord 21 = .ok (.if_icmp .eq 5, 3) := dk_159 0 5 (dk_at dksX4_isWord_0 21 rfl rfl)
theorem dX4_isWord_24 : decode cX4_isWord 24 = .ok (.iconst 0, 1) := dk_3 (dk_at dksX4_isWord_1 0 rfl rfl)
theorem dX4_isWord_25 : decode cX4_isWord 25 = .ok (.ireturn, 1) := dk_172 (dk_at dksX4_isWord_1 1 rfl rfl)
theorem dX4_isWord_26 : decode cX4_isWord 26 = .ok (.iconst 0, 1) := dk_3 (dk_at dksX4_isWord_1 2 rfl rfl)
theorem dX4_isWord_27 : decode cX4_isWord 27 = .ok (.istore_n 2, 1) := dk_61 (dk_at dksX4_isWord_1 3 rfl rfl)
theorem dX4_isWord_28 : decode cX4_isWord 28 = .ok (.iload_n 2, 1) := dk_28 (dk_at dksX4_isWord_1 4 rfl rfl)
theorem dX4_isWord_29 : decode cX4_isWord 29 = .ok (.aload_n 1, 1) := dk_43 (dk_at dksX4_isWord_1 5 rfl rfl)
theorem dX4_isWord_30 : decode cX4_isWord 30 = .ok (.invokevirtual 54, 3) := dk_182 0 54 (dk_at dksX4_isWord_1 6 rfl rfl)
theorem dX4_isWord_33 : decode cX4_isWord 33 = .ok (.if_icmp .ge 27, 3) := dk_162 0 27 (dk_at dksX4_isWord_1 9 rfl rfl)
theorem dX4_isWord_36 : decode cX4_isWord 36 = .ok (.aload_n 0, 1) := dk_42 (dk_at dksX4_isWord_1 12 rfl rfl)
theorem dX4_isWord_37 : decode cX4_isWord 37 = .ok (.aload_n 0, 1) := dk_42 (dk_at dksX4_isWord_1 13 rfl rfl)
theorem dX4_isWord_38 : decode cX4_isWord 38 = .ok (.getfield 22, 3) := dk_180 0 22 (dk_at dksX4_isWord_1 14 rfl rfl)
theorem dX4_isWord_41 : decode cX4_isWord 41 = .ok (.iload_n 2, 1) := dk_28 (dk_at dksX4_isWord_1 17 rfl rfl)
theorem dX4_isWord_42 : decode cX4_isWord 42 = .ok (.iadd, 1) := dk_96 (dk_at dksX4_isWord_1 18 rfl rfl)
theorem dX4_isWord_43 : decode cX4_isWord 43 = .ok (.invokevirtual 25, 3) := dk_182 0 25 (dk_at dksX4_isWord_1 19 rfl rfl)
theorem dX4_isWord_46 : decode cX4_isWord 46 = .ok (.aload_n 1, 1) := dk_43 (dk_at dksX4_isWord_1 22 rfl rfl)
theorem dX4_isWord_47 : decode cX4_isWord 47 = .ok (.iload_n 2, 1) := dk_28 (dk_at dksX4_isWord_1 23 rfl rfl)
theorem dX4_isWord_48 : decode cX4_isWord 48 = .ok (.invokevirtual 58, 3) := dk_182 0 58 (dk_at dksX4_isWord_2 0 rfl rfl)
theorem dX4_isWord_51 : decode cX4_isWord 51 = .ok (.if_icmp .ne 9, 3) := dk_160 0 9 (dk_at dksX4_isWord_2 3 rfl rfl)
theorem dX4_isWord_54 : decode cX4_isWord 54 = .ok (.iinc 2 1, 3) := dk_132 2 1 (dk_at dksX4_isWord_2 6 rfl rfl)
theorem dX4_isWord_57 : decode cX4_isWord 57 = .ok (.goto (-29), 3) := dk_167 255 227 (dk_at dksX4_isWord_2 9 rfl rfl)
theorem dX4_isWord_60 : decode cX4_isWord 60 = .ok (.iload_n 2, 1) := dk_28 (dk_at dksX4_isWord_2 12 rfl rfl)
theorem dX4_isWord_61 : decode cX4_isWord 61 = .ok (.aload_n 1, 1) := dk_43 (dk_at dksX4_isWord_2 13 rfl rfl)
theorem dX4_isWord_62 : decode cX4_isWord 62 = .ok (.invokevirtual 54, 3) := dk_182 0 54 (dk_at dksX4_isWord_2 14 rfl rfl)
theorem dX4_isWord_65 : decode cX4_isWord 65 = .ok (.if_icmp .ne 7, 3) := dk_160 0 7 (dk_at dksX4_isWord_2 17 rfl rfl)
theorem dX4_isWord_68 : decode cX4_isWord 68 = .ok (.iconst 1, 1) := dk_4 (dk_at dksX4_isWord_2 20 rfl rfl)
theorem dX4_isWord_69 : decode cX4_isWord 69 = .ok (.goto 4, 3) := dk_167 0 4 (dk_at dksX4_isWord_2 21 rfl rfl)
theorem dX4_isWord_72 : decode cX4_isWord 72 = .ok (.iconst 0, 1) := dk_3 (dk_at dksX4_isWord_3 0 rfl rfl)
theorem dX4_isWord_73 : decode cX4_isWord 73 = .ok (.ireturn, 1) := dk_172 (dk_at dksX4_isWord_3 1 rfl rfl)
abbrev cX4_wrong : ByteArray := prog_10_method_8_code
def yX4_wrong : MethodName := ⟨RX4, "wrong", "()LPlyHouse$Wrong;"⟩
def dkwX4_wrong_0 : List UInt8 := [187, 0, 36, 89, 5, 42, 180, 0, 22, 183, 0, 38, 176]
abbrev dktX4_wrong_0 : List UInt8 := dkwX4_wrong_0 ++ []
theorem dksX4_wrong_0 : cX4_wrong.data.toList.drop 0 = dktX4_wrong_0 := by decide +kernel
theorem dX4_wrong_0 : decode cX4_wrong 0 = .ok (.new 36, 3) := dk_187 0 36 (dk_at dksX4_wrong_0 0 rfl rfl)
theorem dX4_wrong_3 : decode cX4_wrong 3 = .ok (.dup, 1) := dk_89 (dk_at dksX4_wrong_0 3 rfl rfl)
theorem dX4_wrong_4 : decode cX4_wrong 4 = .ok (.iconst 2, 1) := dk_5 (dk_at dksX4_wrong_0 4 rfl rfl)
theorem dX4_wrong_5 : decode cX4_wrong 5 = .ok (.aload_n 0, 1) := dk_42 (dk_at dksX4_wrong_0 5 rfl rfl)
theorem dX4_wrong_6 : decode cX4_wrong 6 = .ok (.getfield 22, 3) := dk_180 0 22 (dk_at dksX4_wrong_0 6 rfl rfl)
theorem dX4_wrong_9 : decode cX4_wrong 9 = .ok (.invokespecial 38, 3) := dk_183 0 38 (dk_at dksX4_wrong_0 9 rfl rfl)
theorem dX4_wrong_12 : decode cX4_wrong 12 = .ok (.areturn, 1) := dk_176 (dk_at dksX4_wrong_0 12 rfl rfl)
abbrev cX4_number : ByteArray := prog_10_method_11_code
def yX4_number : MethodName := ⟨RX4, "number", "(II)I"⟩
def dkwX4_number_2 : List UInt8 := [62, 42, 182, 0, 69, 29, 172]
abbrev dktX4_number_2 : List UInt8 := dkwX4_number_2 ++ []
def dkwX4_number_1 : List UInt8 := [180, 0, 44, 28, 164, 0, 16, 187, 0, 36, 89, 6, 42, 180, 0, 22, 183, 0, 38, 191, 42, 180, 0, 44]
abbrev dktX4_number_1 : List UInt8 := dkwX4_number_1 ++ dktX4_number_2
def dkwX4_number_0 : List UInt8 := [42, 180, 0, 29, 5, 159, 0, 8, 42, 182, 0, 65, 191, 42, 180, 0, 44, 27, 161, 0, 11, 42]
abbrev dktX4_number_0 : List UInt8 := dkwX4_number_0 ++ dktX4_number_1
theorem dksX4_number_0 : cX4_number.data.toList.drop 0 = dktX4_number_0 := by decide +kernel
theorem dksX4_number_1 : cX4_number.data.toList.drop 22 = dktX4_number_1 := dk_seg dksX4_number_0 22 rfl rfl
theorem dksX4_number_2 : cX4_number.data.toList.drop 46 = dktX4_number_2 := dk_seg dksX4_number_1 24 rfl rfl
theorem dX4_number_0 : decode cX4_number 0 = .ok (.aload_n 0, 1) := dk_42 (dk_at dksX4_number_0 0 rfl rfl)
theorem dX4_number_1 : decode cX4_number 1 = .ok (.getfield 29, 3) := dk_180 0 29 (dk_at dksX4_number_0 1 rfl rfl)
theorem dX4_number_4 : decode cX4_number 4 = .ok (.iconst 2, 1) := dk_5 (dk_at dksX4_number_0 4 rfl rfl)
theorem dX4_number_5 : decode cX4_number 5 = .ok (.if_icmp .eq 8, 3) := dk_159 0 8 (dk_at dksX4_number_0 5 rfl rfl)
theorem dX4_number_8 : decode cX4_number 8 = .ok (.aload_n 0, 1) := dk_42 (dk_at dksX4_number_0 8 rfl rfl)
theorem dX4_number_9 : decode cX4_number 9 = .ok (.invokevirtual 65, 3) := dk_182 0 65 (dk_at dksX4_number_0 9 rfl rfl)
theorem dX4_number_12 : decode cX4_number 12 = .ok (.athrow, 1) := dk_191 (dk_at dksX4_number_0 12 rfl rfl)
theorem dX4_number_13 : decode cX4_number 13 = .ok (.aload_n 0, 1) := dk_42 (dk_at dksX4_number_0 13 rfl rfl)
theorem dX4_number_14 : decode cX4_number 14 = .ok (.getfield 44, 3) := dk_180 0 44 (dk_at dksX4_number_0 14 rfl rfl)
theorem dX4_number_17 : decode cX4_number 17 = .ok (.iload_n 1, 1) := dk_27 (dk_at dksX4_number_0 17 rfl rfl)
theorem dX4_number_18 : decode cX4_number 18 = .ok (.if_icmp .lt 11, 3) := dk_161 0 11 (dk_at dksX4_number_0 18 rfl rfl)
theorem dX4_number_21 : decode cX4_number 21 = .ok (.aload_n 0, 1) := dk_42 (dk_at dksX4_number_0 21 rfl rfl)
theorem dX4_number_22 : decode cX4_number 22 = .ok (.getfield 44, 3) := dk_180 0 44 (dk_at dksX4_number_1 0 rfl rfl)
theorem dX4_number_25 : decode cX4_number 25 = .ok (.iload_n 2, 1) := dk_28 (dk_at dksX4_number_1 3 rfl rfl)
theorem dX4_number_26 : decode cX4_number 26 = .ok (.if_icmp .le 16, 3) := dk_164 0 16 (dk_at dksX4_number_1 4 rfl rfl)
theorem dX4_number_29 : decode cX4_number 29 = .ok (.new 36, 3) := dk_187 0 36 (dk_at dksX4_number_1 7 rfl rfl)
theorem dX4_number_32 : decode cX4_number 32 = .ok (.dup, 1) := dk_89 (dk_at dksX4_number_1 10 rfl rfl)
theorem dX4_number_33 : decode cX4_number 33 = .ok (.iconst 3, 1) := dk_6 (dk_at dksX4_number_1 11 rfl rfl)
theorem dX4_number_34 : decode cX4_number 34 = .ok (.aload_n 0, 1) := dk_42 (dk_at dksX4_number_1 12 rfl rfl)
theorem dX4_number_35 : decode cX4_number 35 = .ok (.getfield 22, 3) := dk_180 0 22 (dk_at dksX4_number_1 13 rfl rfl)
theorem dX4_number_38 : decode cX4_number 38 = .ok (.invokespecial 38, 3) := dk_183 0 38 (dk_at dksX4_number_1 16 rfl rfl)
theorem dX4_number_41 : decode cX4_number 41 = .ok (.athrow, 1) := dk_191 (dk_at dksX4_number_1 19 rfl rfl)
theorem dX4_number_42 : decode cX4_number 42 = .ok (.aload_n 0, 1) := dk_42 (dk_at dksX4_number_1 20 rfl rfl)
theorem dX4_number_43 : decode cX4_number 43 = .ok (.getfield 44, 3) := dk_180 0 44 (dk_at dksX4_number_1 21 rfl rfl)
theorem dX4_number_46 : decode cX4_number 46 = .ok (.istore_n 3, 1) := dk_62 (dk_at dksX4_number_2 0 rfl rfl)
theorem dX4_number_47 : decode cX4_number 47 = .ok (.aload_n 0, 1) := dk_42 (dk_at dksX4_number_2 1 rfl rfl)
theorem dX4_number_48 : decode cX4_number 48 = .ok (.invokevirtual 69, 3) := dk_182 0 69 (dk_at dksX4_number_2 2 rfl rfl)
theorem dX4_number_51 : decode cX4_number 51 = .ok (.iload_n 3, 1) := dk_29 (dk_at dksX4_number_2 5 rfl rfl)
theorem dX4_number_52 : decode cX4_number 52 = .ok (.ireturn, 1) := dk_172 (dk_at dksX4_number_2 6 rfl rfl)
abbrev cX4_mustWord : ByteArray := prog_10_method_10_code
def yX4_mustWord : MethodName := ⟨RX4, "mustWord", "(Ljava/lang/String;)V"⟩
def dkwX4_mustWord_0 : List UInt8 := [42, 43, 182, 0, 72, 154, 0, 8, 42, 182, 0, 65, 191, 42, 182, 0, 69, 177]
abbrev dktX4_mustWord_0 : List UInt8 := dkwX4_mustWord_0 ++ []
theorem dksX4_mustWord_0 : cX4_mustWord.data.toList.drop 0 = dktX4_mustWord_0 := by decide +kernel
theorem dX4_mustWord_0 : decode cX4_mustWord 0 = .ok (.aload_n 0, 1) := dk_42 (dk_at dksX4_mustWord_0 0 rfl rfl)
theorem dX4_mustWord_1 : decode cX4_mustWord 1 = .ok (.aload_n 1, 1) := dk_43 (dk_at dksX4_mustWord_0 1 rfl rfl)
theorem dX4_mustWord_2 : decode cX4_mustWord 2 = .ok (.invokevirtual 72, 3) := dk_182 0 72 (dk_at dksX4_mustWord_0 2 rfl rfl)
theorem dX4_mustWord_5 : decode cX4_mustWord 5 = .ok (.ifCond .ne 8, 3) := dk_154 0 8 (dk_at dksX4_mustWord_0 5 rfl rfl)
theorem dX4_mustWord_8 : decode cX4_mustWord 8 = .ok (.aload_n 0, 1) := dk_42 (dk_at dksX4_mustWord_0 8 rfl rfl)
theorem dX4_mustWord_9 : decode cX4_mustWord 9 = .ok (.invokevirtual 65, 3) := dk_182 0 65 (dk_at dksX4_mustWord_0 9 rfl rfl)
theorem dX4_mustWord_12 : decode cX4_mustWord 12 = .ok (.athrow, 1) := dk_191 (dk_at dksX4_mustWord_0 12 rfl rfl)
theorem dX4_mustWord_13 : decode cX4_mustWord 13 = .ok (.aload_n 0, 1) := dk_42 (dk_at dksX4_mustWord_0 13 rfl rfl)
theorem dX4_mustWord_14 : decode cX4_mustWord 14 = .ok (.invokevirtual 69, 3) := dk_182 0 69 (dk_at dksX4_mustWord_0 14 rfl rfl)
theorem dX4_mustWord_17 : decode cX4_mustWord 17 = .ok (.return_, 1) := dk_177 (dk_at dksX4_mustWord_0 17 rfl rfl)
abbrev cX4_e : ByteArray := prog_10_method_13_code
def yX4_e : MethodName := ⟨RX4, "e", "()LPlyHouse$Node;"⟩
def dkwX4_e_1 : List UInt8 := [42, 182, 0, 79, 183, 0, 87, 76, 167, 255, 229, 43, 176]
abbrev dktX4_e_1 : List UInt8 := dkwX4_e_1 ++ []
def dkwX4_e_0 : List UInt8 := [42, 182, 0, 79, 76, 42, 18, 83, 182, 0, 72, 153, 0, 24, 42, 182, 0, 69, 187, 0, 85, 89, 3, 43]
abbrev dktX4_e_0 : List UInt8 := dkwX4_e_0 ++ dktX4_e_1
theorem dksX4_e_0 : cX4_e.data.toList.drop 0 = dktX4_e_0 := by decide +kernel
theorem dksX4_e_1 : cX4_e.data.toList.drop 24 = dktX4_e_1 := dk_seg dksX4_e_0 24 rfl rfl
theorem dX4_e_0 : decode cX4_e 0 = .ok (.aload_n 0, 1) := dk_42 (dk_at dksX4_e_0 0 rfl rfl)
theorem dX4_e_1 : decode cX4_e 1 = .ok (.invokevirtual 79, 3) := dk_182 0 79 (dk_at dksX4_e_0 1 rfl rfl)
theorem dX4_e_4 : decode cX4_e 4 = .ok (.astore_n 1, 1) := dk_76 (dk_at dksX4_e_0 4 rfl rfl)
theorem dX4_e_5 : decode cX4_e 5 = .ok (.aload_n 0, 1) := dk_42 (dk_at dksX4_e_0 5 rfl rfl)
theorem dX4_e_6 : decode cX4_e 6 = .ok (.ldc 83, 2) := dk_18 83 (dk_at dksX4_e_0 6 rfl rfl)
theorem dX4_e_8 : decode cX4_e 8 = .ok (.invokevirtual 72, 3) := dk_182 0 72 (dk_at dksX4_e_0 8 rfl rfl)
theorem dX4_e_11 : decode cX4_e 11 = .ok (.ifCond .eq 24, 3) := dk_153 0 24 (dk_at dksX4_e_0 11 rfl rfl)
theorem dX4_e_14 : decode cX4_e 14 = .ok (.aload_n 0, 1) := dk_42 (dk_at dksX4_e_0 14 rfl rfl)
theorem dX4_e_15 : decode cX4_e 15 = .ok (.invokevirtual 69, 3) := dk_182 0 69 (dk_at dksX4_e_0 15 rfl rfl)
theorem dX4_e_18 : decode cX4_e 18 = .ok (.new 85, 3) := dk_187 0 85 (dk_at dksX4_e_0 18 rfl rfl)
theorem dX4_e_21 : decode cX4_e 21 = .ok (.dup, 1) := dk_89 (dk_at dksX4_e_0 21 rfl rfl)
theorem dX4_e_22 : decode cX4_e 22 = .ok (.iconst 0, 1) := dk_3 (dk_at dksX4_e_0 22 rfl rfl)
theorem dX4_e_23 : decode cX4_e 23 = .ok (.aload_n 1, 1) := dk_43 (dk_at dksX4_e_0 23 rfl rfl)
theorem dX4_e_24 : decode cX4_e 24 = .ok (.aload_n 0, 1) := dk_42 (dk_at dksX4_e_1 0 rfl rfl)
theorem dX4_e_25 : decode cX4_e 25 = .ok (.invokevirtual 79, 3) := dk_182 0 79 (dk_at dksX4_e_1 1 rfl rfl)
theorem dX4_e_28 : decode cX4_e 28 = .ok (.invokespecial 87, 3) := dk_183 0 87 (dk_at dksX4_e_1 4 rfl rfl)
theorem dX4_e_31 : decode cX4_e 31 = .ok (.astore_n 1, 1) := dk_76 (dk_at dksX4_e_1 7 rfl rfl)
theorem dX4_e_32 : decode cX4_e 32 = .ok (.goto (-27), 3) := dk_167 255 229 (dk_at dksX4_e_1 8 rfl rfl)
theorem dX4_e_35 : decode cX4_e 35 = .ok (.aload_n 1, 1) := dk_43 (dk_at dksX4_e_1 11 rfl rfl)
theorem dX4_e_36 : decode cX4_e 36 = .ok (.areturn, 1) := dk_176 (dk_at dksX4_e_1 12 rfl rfl)
abbrev cX4_both : ByteArray := prog_10_method_14_code
def yX4_both : MethodName := ⟨RX4, "both", "()LPlyHouse$Node;"⟩
def dkwX4_both_1 : List UInt8 := [42, 182, 0, 90, 183, 0, 87, 76, 167, 255, 229, 43, 176]
abbrev dktX4_both_1 : List UInt8 := dkwX4_both_1 ++ []
def dkwX4_both_0 : List UInt8 := [42, 182, 0, 90, 76, 42, 18, 93, 182, 0, 72, 153, 0, 24, 42, 182, 0, 69, 187, 0, 85, 89, 4, 43]
abbrev dktX4_both_0 : List UInt8 := dkwX4_both_0 ++ dktX4_both_1
theorem dksX4_both_0 : cX4_both.data.toList.drop 0 = dktX4_both_0 := by decide +kernel
theorem dksX4_both_1 : cX4_both.data.toList.drop 24 = dktX4_both_1 := dk_seg dksX4_both_0 24 rfl rfl
theorem dX4_both_0 : decode cX4_both 0 = .ok (.aload_n 0, 1) := dk_42 (dk_at dksX4_both_0 0 rfl rfl)
theorem dX4_both_1 : decode cX4_both 1 = .ok (.invokevirtual 90, 3) := dk_182 0 90 (dk_at dksX4_both_0 1 rfl rfl)
theorem dX4_both_4 : decode cX4_both 4 = .ok (.astore_n 1, 1) := dk_76 (dk_at dksX4_both_0 4 rfl rfl)
theorem dX4_both_5 : decode cX4_both 5 = .ok (.aload_n 0, 1) := dk_42 (dk_at dksX4_both_0 5 rfl rfl)
theorem dX4_both_6 : decode cX4_both 6 = .ok (.ldc 93, 2) := dk_18 93 (dk_at dksX4_both_0 6 rfl rfl)
theorem dX4_both_8 : decode cX4_both 8 = .ok (.invokevirtual 72, 3) := dk_182 0 72 (dk_at dksX4_both_0 8 rfl rfl)
theorem dX4_both_11 : decode cX4_both 11 = .ok (.ifCond .eq 24, 3) := dk_153 0 24 (dk_at dksX4_both_0 11 rfl rfl)
theorem dX4_both_14 : decode cX4_both 14 = .ok (.aload_n 0, 1) := dk_42 (dk_at dksX4_both_0 14 rfl rfl)
theorem dX4_both_15 : decode cX4_both 15 = .ok (.invokevirtual 69, 3) := dk_182 0 69 (dk_at dksX4_both_0 15 rfl rfl)
theorem dX4_both_18 : decode cX4_both 18 = .ok (.new 85, 3) := dk_187 0 85 (dk_at dksX4_both_0 18 rfl rfl)
theorem dX4_both_21 : decode cX4_both 21 = .ok (.dup, 1) := dk_89 (dk_at dksX4_both_0 21 rfl rfl)
theorem dX4_both_22 : decode cX4_both 22 = .ok (.iconst 1, 1) := dk_4 (dk_at dksX4_both_0 22 rfl rfl)
theorem dX4_both_23 : decode cX4_both 23 = .ok (.aload_n 1, 1) := dk_43 (dk_at dksX4_both_0 23 rfl rfl)
theorem dX4_both_24 : decode cX4_both 24 = .ok (.aload_n 0, 1) := dk_42 (dk_at dksX4_both_1 0 rfl rfl)
theorem dX4_both_25 : decode cX4_both 25 = .ok (.invokevirtual 90, 3) := dk_182 0 90 (dk_at dksX4_both_1 1 rfl rfl)
theorem dX4_both_28 : decode cX4_both 28 = .ok (.invokespecial 87, 3) := dk_183 0 87 (dk_at dksX4_both_1 4 rfl rfl)
theorem dX4_both_31 : decode cX4_both 31 = .ok (.astore_n 1, 1) := dk_76 (dk_at dksX4_both_1 7 rfl rfl)
theorem dX4_both_32 : decode cX4_both 32 = .ok (.goto (-27), 3) := dk_167 255 229 (dk_at dksX4_both_1 8 rfl rfl)
theorem dX4_both_35 : decode cX4_both 35 = .ok (.aload_n 1, 1) := dk_43 (dk_at dksX4_both_1 11 rfl rfl)
theorem dX4_both_36 : decode cX4_both 36 = .ok (.areturn, 1) := dk_176 (dk_at dksX4_both_1 12 rfl rfl)
abbrev cX4_one : ByteArray := prog_10_method_15_code
def yX4_one : MethodName := ⟨RX4, "one", "()LPlyHouse$Node;"⟩
def dkwX4_one_6 : List UInt8 := [182, 0, 112, 183, 0, 117, 176]
abbrev dktX4_one_6 : List UInt8 := dkwX4_one_6 ++ []
def dkwX4_one_5 : List UInt8 := [182, 0, 65, 191, 42, 42, 180, 0, 22, 182, 0, 25, 61, 42, 182, 0, 69, 187, 0, 115, 89, 28, 43, 42]
abbrev dktX4_one_5 : List UInt8 := dkwX4_one_5 ++ dktX4_one_6
def dkwX4_one_4 : List UInt8 := [154, 0, 26, 42, 16, 62, 182, 0, 62, 154, 0, 17, 42, 16, 61, 182, 0, 62, 154, 0, 8, 42]
abbrev dktX4_one_4 : List UInt8 := dkwX4_one_4 ++ dktX4_one_5
def dkwX4_one_3 : List UInt8 := [4, 100, 181, 0, 76, 42, 16, 41, 182, 0, 108, 43, 176, 42, 182, 0, 112, 76, 42, 16, 60, 182, 0, 62]
abbrev dktX4_one_3 : List UInt8 := dkwX4_one_3 ++ dktX4_one_4
def dkwX4_one_2 : List UInt8 := [182, 0, 62, 153, 0, 34, 42, 182, 0, 69, 42, 182, 0, 97, 42, 182, 0, 105, 76, 42, 89, 180, 0, 76]
abbrev dktX4_one_2 : List UInt8 := dkwX4_one_2 ++ dktX4_one_3
def dkwX4_one_1 : List UInt8 := [182, 0, 90, 183, 0, 102, 76, 42, 89, 180, 0, 76, 4, 100, 181, 0, 76, 43, 176, 42, 16, 40]
abbrev dktX4_one_1 : List UInt8 := dkwX4_one_1 ++ dktX4_one_2
def dkwX4_one_0 : List UInt8 := [42, 18, 95, 182, 0, 72, 153, 0, 35, 42, 182, 0, 69, 42, 182, 0, 97, 187, 0, 100, 89, 42]
abbrev dktX4_one_0 : List UInt8 := dkwX4_one_0 ++ dktX4_one_1
theorem dksX4_one_0 : cX4_one.data.toList.drop 0 = dktX4_one_0 := by decide +kernel
theorem dksX4_one_1 : cX4_one.data.toList.drop 22 = dktX4_one_1 := dk_seg dksX4_one_0 22 rfl rfl
theorem dksX4_one_2 : cX4_one.data.toList.drop 44 = dktX4_one_2 := dk_seg dksX4_one_1 22 rfl rfl
theorem dksX4_one_3 : cX4_one.data.toList.drop 68 = dktX4_one_3 := dk_seg dksX4_one_2 24 rfl rfl
theorem dksX4_one_4 : cX4_one.data.toList.drop 92 = dktX4_one_4 := dk_seg dksX4_one_3 24 rfl rfl
theorem dksX4_one_5 : cX4_one.data.toList.drop 114 = dktX4_one_5 := dk_seg dksX4_one_4 22 rfl rfl
theorem dksX4_one_6 : cX4_one.data.toList.drop 138 = dktX4_one_6 := dk_seg dksX4_one_5 24 rfl rfl
theorem dX4_one_0 : decode cX4_one 0 = .ok (.aload_n 0, 1) := dk_42 (dk_at dksX4_one_0 0 rfl rfl)
theorem dX4_one_1 : decode cX4_one 1 = .ok (.ldc 95, 2) := dk_18 95 (dk_at dksX4_one_0 1 rfl rfl)
theorem dX4_one_3 : decode cX4_one 3 = .ok (.invokevirtual 72, 3) := dk_182 0 72 (dk_at dksX4_one_0 3 rfl rfl)
theorem dX4_one_6 : decode cX4_one 6 = .ok (.ifCond .eq 35, 3) := dk_153 0 35 (dk_at dksX4_one_0 6 rfl rfl)
theorem dX4_one_9 : decode cX4_one 9 = .ok (.aload_n 0, 1) := dk_42 (dk_at dksX4_one_0 9 rfl rfl)
theorem dX4_one_10 : decode cX4_one 10 = .ok (.invokevirtual 69, 3) := dk_182 0 69 (dk_at dksX4_one_0 10 rfl rfl)
theorem dX4_one_13 : decode cX4_one 13 = .ok (.aload_n 0, 1) := dk_42 (dk_at dksX4_one_0 13 rfl rfl)
theorem dX4_one_14 : decode cX4_one 14 = .ok (.invokevirtual 97, 3) := dk_182 0 97 (dk_at dksX4_one_0 14 rfl rfl)
theorem dX4_one_17 : decode cX4_one 17 = .ok (.new 100, 3) := dk_187 0 100 (dk_at dksX4_one_0 17 rfl rfl)
theorem dX4_one_20 : decode cX4_one 20 = .ok (.dup, 1) := dk_89 (dk_at dksX4_one_0 20 rfl rfl)
theorem dX4_one_21 : decode cX4_one 21 = .ok (.aload_n 0, 1) := dk_42 (dk_at dksX4_one_0 21 rfl rfl)
theorem dX4_one_22 : decode cX4_one 22 = .ok (.invokevirtual 90, 3) := dk_182 0 90 (dk_at dksX4_one_1 0 rfl rfl)
theorem dX4_one_25 : decode cX4_one 25 = .ok (.invokespecial 102, 3) := dk_183 0 102 (dk_at dksX4_one_1 3 rfl rfl)
theorem dX4_one_28 : decode cX4_one 28 = .ok (.astore_n 1, 1) := dk_76 (dk_at dksX4_one_1 6 rfl rfl)
theorem dX4_one_29 : decode cX4_one 29 = .ok (.aload_n 0, 1) := dk_42 (dk_at dksX4_one_1 7 rfl rfl)
theorem dX4_one_30 : decode cX4_one 30 = .ok (.dup, 1) := dk_89 (dk_at dksX4_one_1 8 rfl rfl)
theorem dX4_one_31 : decode cX4_one 31 = .ok (.getfield 76, 3) := dk_180 0 76 (dk_at dksX4_one_1 9 rfl rfl)
theorem dX4_one_34 : decode cX4_one 34 = .ok (.iconst 1, 1) := dk_4 (dk_at dksX4_one_1 12 rfl rfl)
theorem dX4_one_35 : decode cX4_one 35 = .ok (.isub, 1) := dk_100 (dk_at dksX4_one_1 13 rfl rfl)
theorem dX4_one_36 : decode cX4_one 36 = .ok (.putfield 76, 3) := dk_181 0 76 (dk_at dksX4_one_1 14 rfl rfl)
theorem dX4_one_39 : decode cX4_one 39 = .ok (.aload_n 1, 1) := dk_43 (dk_at dksX4_one_1 17 rfl rfl)
theorem dX4_one_40 : decode cX4_one 40 = .ok (.areturn, 1) := dk_176 (dk_at dksX4_one_1 18 rfl rfl)
theorem dX4_one_41 : decode cX4_one 41 = .ok (.aload_n 0, 1) := dk_42 (dk_at dksX4_one_1 19 rfl rfl)
theorem dX4_one_42 : decode cX4_one 42 = .ok (.bipush 40, 2) := dk_16 40 (dk_at dksX4_one_1 20 rfl rfl)
theorem dX4_one_44 : decode cX4_one 44 = .ok (.invokevirtual 62, 3) := dk_182 0 62 (dk_at dksX4_one_2 0 rfl rfl)
theorem dX4_one_47 : decode cX4_one 47 = .ok (.ifCond .eq 34, 3) := dk_153 0 34 (dk_at dksX4_one_2 3 rfl rfl)
theorem dX4_one_50 : decode cX4_one 50 = .ok (.aload_n 0, 1) := dk_42 (dk_at dksX4_one_2 6 rfl rfl)
theorem dX4_one_51 : decode cX4_one 51 = .ok (.invokevirtual 69, 3) := dk_182 0 69 (dk_at dksX4_one_2 7 rfl rfl)
theorem dX4_one_54 : decode cX4_one 54 = .ok (.aload_n 0, 1) := dk_42 (dk_at dksX4_one_2 10 rfl rfl)
theorem dX4_one_55 : decode cX4_one 55 = .ok (.invokevirtual 97, 3) := dk_182 0 97 (dk_at dksX4_one_2 11 rfl rfl)
theorem dX4_one_58 : decode cX4_one 58 = .ok (.aload_n 0, 1) := dk_42 (dk_at dksX4_one_2 14 rfl rfl)
theorem dX4_one_59 : decode cX4_one 59 = .ok (.invokevirtual 105, 3) := dk_182 0 105 (dk_at dksX4_one_2 15 rfl rfl)
theorem dX4_one_62 : decode cX4_one 62 = .ok (.astore_n 1, 1) := dk_76 (dk_at dksX4_one_2 18 rfl rfl)
theorem dX4_one_63 : decode cX4_one 63 = .ok (.aload_n 0, 1) := dk_42 (dk_at dksX4_one_2 19 rfl rfl)
theorem dX4_one_64 : decode cX4_one 64 = .ok (.dup, 1) := dk_89 (dk_at dksX4_one_2 20 rfl rfl)
theorem dX4_one_65 : decode cX4_one 65 = .ok (.getfield 76, 3) := dk_180 0 76 (dk_at dksX4_one_2 21 rfl rfl)
theorem dX4_one_68 : decode cX4_one 68 = .ok (.iconst 1, 1) := dk_4 (dk_at dksX4_one_3 0 rfl rfl)
theorem dX4_one_69 : decode cX4_one 69 = .ok (.isub, 1) := dk_100 (dk_at dksX4_one_3 1 rfl rfl)
theorem dX4_one_70 : decode cX4_one 70 = .ok (.putfield 76, 3) := dk_181 0 76 (dk_at dksX4_one_3 2 rfl rfl)
theorem dX4_one_73 : decode cX4_one 73 = .ok (.aload_n 0, 1) := dk_42 (dk_at dksX4_one_3 5 rfl rfl)
theorem dX4_one_74 : decode cX4_one 74 = .ok (.bipush 41, 2) := dk_16 41 (dk_at dksX4_one_3 6 rfl rfl)
theorem dX4_one_76 : decode cX4_one 76 = .ok (.invokevirtual 108, 3) := dk_182 0 108 (dk_at dksX4_one_3 8 rfl rfl)
theorem dX4_one_79 : decode cX4_one 79 = .ok (.aload_n 1, 1) := dk_43 (dk_at dksX4_one_3 11 rfl rfl)
theorem dX4_one_80 : decode cX4_one 80 = .ok (.areturn, 1) := dk_176 (dk_at dksX4_one_3 12 rfl rfl)
theorem dX4_one_81 : decode cX4_one 81 = .ok (.aload_n 0, 1) := dk_42 (dk_at dksX4_one_3 13 rfl rfl)
theorem dX4_one_82 : decode cX4_one 82 = .ok (.invokevirtual 112, 3) := dk_182 0 112 (dk_at dksX4_one_3 14 rfl rfl)
theorem dX4_one_85 : decode cX4_one 85 = .ok (.astore_n 1, 1) := dk_76 (dk_at dksX4_one_3 17 rfl rfl)
theorem dX4_one_86 : decode cX4_one 86 = .ok (.aload_n 0, 1) := dk_42 (dk_at dksX4_one_3 18 rfl rfl)
theorem dX4_one_87 : decode cX4_one 87 = .ok (.bipush 60, 2) := dk_16 60 (dk_at dksX4_one_3 19 rfl rfl)
theorem dX4_one_89 : decode cX4_one 89 = .ok (.invokevirtual 62, 3) := dk_182 0 62 (dk_at dksX4_one_3 21 rfl rfl)
theorem dX4_one_92 : decode cX4_one 92 = .ok (.ifCond .ne 26, 3) := dk_154 0 26 (dk_at dksX4_one_4 0 rfl rfl)
theorem dX4_one_95 : decode cX4_one 95 = .ok (.aload_n 0, 1) := dk_42 (dk_at dksX4_one_4 3 rfl rfl)
theorem dX4_one_96 : decode cX4_one 96 = .ok (.bipush 62, 2) := dk_16 62 (dk_at dksX4_one_4 4 rfl rfl)
theorem dX4_one_98 : decode cX4_one 98 = .ok (.invokevirtual 62, 3) := dk_182 0 62 (dk_at dksX4_one_4 6 rfl rfl)
theorem dX4_one_101 : decode cX4_one 101 = .ok (.ifCond .ne 17, 3) := dk_154 0 17 (dk_at dksX4_one_4 9 rfl rfl)
theorem dX4_one_104 : decode cX4_one 104 = .ok (.aload_n 0, 1) := dk_42 (dk_at dksX4_one_4 12 rfl rfl)
theorem dX4_one_105 : decode cX4_one 105 = .ok (.bipush 61, 2) := dk_16 61 (dk_at dksX4_one_4 13 rfl rfl)
theorem dX4_one_107 : decode cX4_one 107 = .ok (.invokevirtual 62, 3) := dk_182 0 62 (dk_at dksX4_one_4 15 rfl rfl)
theorem dX4_one_110 : decode cX4_one 110 = .ok (.ifCond .ne 8, 3) := dk_154 0 8 (dk_at dksX4_one_4 18 rfl rfl)
theorem dX4_one_113 : decode cX4_one 113 = .ok (.aload_n 0, 1) := dk_42 (dk_at dksX4_one_4 21 rfl rfl)
theorem dX4_one_114 : decode cX4_one 114 = .ok (.invokevirtual 65, 3) := dk_182 0 65 (dk_at dksX4_one_5 0 rfl rfl)
theorem dX4_one_117 : decode cX4_one 117 = .ok (.athrow, 1) := dk_191 (dk_at dksX4_one_5 3 rfl rfl)
theorem dX4_one_118 : decode cX4_one 118 = .ok (.aload_n 0, 1) := dk_42 (dk_at dksX4_one_5 4 rfl rfl)
theorem dX4_one_119 : decode cX4_one 119 = .ok (.aload_n 0, 1) := dk_42 (dk_at dksX4_one_5 5 rfl rfl)
theorem dX4_one_120 : decode cX4_one 120 = .ok (.getfield 22, 3) := dk_180 0 22 (dk_at dksX4_one_5 6 rfl rfl)
theorem dX4_one_123 : decode cX4_one 123 = .ok (.invokevirtual 25, 3) := dk_182 0 25 (dk_at dksX4_one_5 9 rfl rfl)
theorem dX4_one_126 : decode cX4_one 126 = .ok (.istore_n 2, 1) := dk_61 (dk_at dksX4_one_5 12 rfl rfl)
theorem dX4_one_127 : decode cX4_one 127 = .ok (.aload_n 0, 1) := dk_42 (dk_at dksX4_one_5 13 rfl rfl)
theorem dX4_one_128 : decode cX4_one 128 = .ok (.invokevirtual 69, 3) := dk_182 0 69 (dk_at dksX4_one_5 14 rfl rfl)
theorem dX4_one_131 : decode cX4_one 131 = .ok (.new 115, 3) := dk_187 0 115 (dk_at dksX4_one_5 17 rfl rfl)
theorem dX4_one_134 : decode cX4_one 134 = .ok (.dup, 1) := dk_89 (dk_at dksX4_one_5 20 rfl rfl)
theorem dX4_one_135 : decode cX4_one 135 = .ok (.iload_n 2, 1) := dk_28 (dk_at dksX4_one_5 21 rfl rfl)
theorem dX4_one_136 : decode cX4_one 136 = .ok (.aload_n 1, 1) := dk_43 (dk_at dksX4_one_5 22 rfl rfl)
theorem dX4_one_137 : decode cX4_one 137 = .ok (.aload_n 0, 1) := dk_42 (dk_at dksX4_one_5 23 rfl rfl)
theorem dX4_one_138 : decode cX4_one 138 = .ok (.invokevirtual 112, 3) := dk_182 0 112 (dk_at dksX4_one_6 0 rfl rfl)
theorem dX4_one_141 : decode cX4_one 141 = .ok (.invokespecial 117, 3) := dk_183 0 117 (dk_at dksX4_one_6 3 rfl rfl)
theorem dX4_one_144 : decode cX4_one 144 = .ok (.areturn, 1) := dk_176 (dk_at dksX4_one_6 6 rfl rfl)
abbrev cX4_goIn : ByteArray := prog_10_method_12_code
def yX4_goIn : MethodName := ⟨RX4, "goIn", "()V"⟩
def dkwX4_goIn_1 : List UInt8 := [177]
abbrev dktX4_goIn_1 : List UInt8 := dkwX4_goIn_1 ++ []
def dkwX4_goIn_0 : List UInt8 := [42, 89, 180, 0, 76, 4, 96, 181, 0, 76, 42, 180, 0, 76, 16, 6, 161, 0, 8, 42, 182, 0, 65, 191]
abbrev dktX4_goIn_0 : List UInt8 := dkwX4_goIn_0 ++ dktX4_goIn_1
theorem dksX4_goIn_0 : cX4_goIn.data.toList.drop 0 = dktX4_goIn_0 := by decide +kernel
theorem dksX4_goIn_1 : cX4_goIn.data.toList.drop 24 = dktX4_goIn_1 := dk_seg dksX4_goIn_0 24 rfl rfl
theorem dX4_goIn_0 : decode cX4_goIn 0 = .ok (.aload_n 0, 1) := dk_42 (dk_at dksX4_goIn_0 0 rfl rfl)
theorem dX4_goIn_1 : decode cX4_goIn 1 = .ok (.dup, 1) := dk_89 (dk_at dksX4_goIn_0 1 rfl rfl)
theorem dX4_goIn_2 : decode cX4_goIn 2 = .ok (.getfield 76, 3) := dk_180 0 76 (dk_at dksX4_goIn_0 2 rfl rfl)
theorem dX4_goIn_5 : decode cX4_goIn 5 = .ok (.iconst 1, 1) := dk_4 (dk_at dksX4_goIn_0 5 rfl rfl)
theorem dX4_goIn_6 : decode cX4_goIn 6 = .ok (.iadd, 1) := dk_96 (dk_at dksX4_goIn_0 6 rfl rfl)
theorem dX4_goIn_7 : decode cX4_goIn 7 = .ok (.putfield 76, 3) := dk_181 0 76 (dk_at dksX4_goIn_0 7 rfl rfl)
theorem dX4_goIn_10 : decode cX4_goIn 10 = .ok (.aload_n 0, 1) := dk_42 (dk_at dksX4_goIn_0 10 rfl rfl)
theorem dX4_goIn_11 : decode cX4_goIn 11 = .ok (.getfield 76, 3) := dk_180 0 76 (dk_at dksX4_goIn_0 11 rfl rfl)
theorem dX4_goIn_14 : decode cX4_goIn 14 = .ok (.bipush 6, 2) := dk_16 6 (dk_at dksX4_goIn_0 14 rfl rfl)
theorem dX4_goIn_16 : decode cX4_goIn 16 = .ok (.if_icmp .lt 8, 3) := dk_161 0 8 (dk_at dksX4_goIn_0 16 rfl rfl)
theorem dX4_goIn_19 : decode cX4_goIn 19 = .ok (.aload_n 0, 1) := dk_42 (dk_at dksX4_goIn_0 19 rfl rfl)
theorem dX4_goIn_20 : decode cX4_goIn 20 = .ok (.invokevirtual 65, 3) := dk_182 0 65 (dk_at dksX4_goIn_0 20 rfl rfl)
theorem dX4_goIn_23 : decode cX4_goIn 23 = .ok (.athrow, 1) := dk_191 (dk_at dksX4_goIn_0 23 rfl rfl)
theorem dX4_goIn_24 : decode cX4_goIn 24 = .ok (.return_, 1) := dk_177 (dk_at dksX4_goIn_1 0 rfl rfl)
abbrev cX4_is : ByteArray := prog_10_method_6_code
def yX4_is : MethodName := ⟨RX4, "is", "(I)Z"⟩
def dkwX4_is_1 : List UInt8 := [3, 172]
abbrev dktX4_is_1 : List UInt8 := dkwX4_is_1 ++ []
def dkwX4_is_0 : List UInt8 := [42, 180, 0, 29, 6, 160, 0, 19, 42, 42, 180, 0, 22, 182, 0, 25, 27, 160, 0, 7, 4, 167, 0, 4]
abbrev dktX4_is_0 : List UInt8 := dkwX4_is_0 ++ dktX4_is_1
theorem dksX4_is_0 : cX4_is.data.toList.drop 0 = dktX4_is_0 := by decide +kernel
theorem dksX4_is_1 : cX4_is.data.toList.drop 24 = dktX4_is_1 := dk_seg dksX4_is_0 24 rfl rfl
theorem dX4_is_0 : decode cX4_is 0 = .ok (.aload_n 0, 1) := dk_42 (dk_at dksX4_is_0 0 rfl rfl)
theorem dX4_is_1 : decode cX4_is 1 = .ok (.getfield 29, 3) := dk_180 0 29 (dk_at dksX4_is_0 1 rfl rfl)
theorem dX4_is_4 : decode cX4_is 4 = .ok (.iconst 3, 1) := dk_6 (dk_at dksX4_is_0 4 rfl rfl)
theorem dX4_is_5 : decode cX4_is 5 = .ok (.if_icmp .ne 19, 3) := dk_160 0 19 (dk_at dksX4_is_0 5 rfl rfl)
theorem dX4_is_8 : decode cX4_is 8 = .ok (.aload_n 0, 1) := dk_42 (dk_at dksX4_is_0 8 rfl rfl)
theorem dX4_is_9 : decode cX4_is 9 = .ok (.aload_n 0, 1) := dk_42 (dk_at dksX4_is_0 9 rfl rfl)
theorem dX4_is_10 : decode cX4_is 10 = .ok (.getfield 22, 3) := dk_180 0 22 (dk_at dksX4_is_0 10 rfl rfl)
theorem dX4_is_13 : decode cX4_is 13 = .ok (.invokevirtual 25, 3) := dk_182 0 25 (dk_at dksX4_is_0 13 rfl rfl)
theorem dX4_is_16 : decode cX4_is 16 = .ok (.iload_n 1, 1) := dk_27 (dk_at dksX4_is_0 16 rfl rfl)
theorem dX4_is_17 : decode cX4_is 17 = .ok (.if_icmp .ne 7, 3) := dk_160 0 7 (dk_at dksX4_is_0 17 rfl rfl)
theorem dX4_is_20 : decode cX4_is 20 = .ok (.iconst 1, 1) := dk_4 (dk_at dksX4_is_0 20 rfl rfl)
theorem dX4_is_21 : decode cX4_is 21 = .ok (.goto 4, 3) := dk_167 0 4 (dk_at dksX4_is_0 21 rfl rfl)
theorem dX4_is_24 : decode cX4_is 24 = .ok (.iconst 0, 1) := dk_3 (dk_at dksX4_is_1 0 rfl rfl)
theorem dX4_is_25 : decode cX4_is 25 = .ok (.ireturn, 1) := dk_172 (dk_at dksX4_is_1 1 rfl rfl)
abbrev cX4_must : ByteArray := prog_10_method_9_code
def yX4_must : MethodName := ⟨RX4, "must", "(I)V"⟩
def dkwX4_must_0 : List UInt8 := [42, 27, 182, 0, 62, 154, 0, 8, 42, 182, 0, 65, 191, 42, 182, 0, 69, 177]
abbrev dktX4_must_0 : List UInt8 := dkwX4_must_0 ++ []
theorem dksX4_must_0 : cX4_must.data.toList.drop 0 = dktX4_must_0 := by decide +kernel
theorem dX4_must_0 : decode cX4_must 0 = .ok (.aload_n 0, 1) := dk_42 (dk_at dksX4_must_0 0 rfl rfl)
theorem dX4_must_1 : decode cX4_must 1 = .ok (.iload_n 1, 1) := dk_27 (dk_at dksX4_must_0 1 rfl rfl)
theorem dX4_must_2 : decode cX4_must 2 = .ok (.invokevirtual 62, 3) := dk_182 0 62 (dk_at dksX4_must_0 2 rfl rfl)
theorem dX4_must_5 : decode cX4_must 5 = .ok (.ifCond .ne 8, 3) := dk_154 0 8 (dk_at dksX4_must_0 5 rfl rfl)
theorem dX4_must_8 : decode cX4_must 8 = .ok (.aload_n 0, 1) := dk_42 (dk_at dksX4_must_0 8 rfl rfl)
theorem dX4_must_9 : decode cX4_must 9 = .ok (.invokevirtual 65, 3) := dk_182 0 65 (dk_at dksX4_must_0 9 rfl rfl)
theorem dX4_must_12 : decode cX4_must 12 = .ok (.athrow, 1) := dk_191 (dk_at dksX4_must_0 12 rfl rfl)
theorem dX4_must_13 : decode cX4_must 13 = .ok (.aload_n 0, 1) := dk_42 (dk_at dksX4_must_0 13 rfl rfl)
theorem dX4_must_14 : decode cX4_must 14 = .ok (.invokevirtual 69, 3) := dk_182 0 69 (dk_at dksX4_must_0 14 rfl rfl)
theorem dX4_must_17 : decode cX4_must 17 = .ok (.return_, 1) := dk_177 (dk_at dksX4_must_0 17 rfl rfl)
abbrev cX4_sum : ByteArray := prog_10_method_16_code
def yX4_sum : MethodName := ⟨RX4, "sum", "()LPlyHouse$Node;"⟩
def dkwX4_sum_2 : List UInt8 := [42, 182, 0, 120, 183, 0, 125, 76, 167, 255, 205, 43, 176]
abbrev dktX4_sum_2 : List UInt8 := dkwX4_sum_2 ++ []
def dkwX4_sum_1 : List UInt8 := [16, 43, 182, 0, 62, 153, 0, 7, 4, 167, 0, 4, 2, 61, 42, 182, 0, 69, 187, 0, 123, 89, 28, 43]
abbrev dktX4_sum_1 : List UInt8 := dkwX4_sum_1 ++ dktX4_sum_2
def dkwX4_sum_0 : List UInt8 := [42, 182, 0, 120, 76, 42, 16, 43, 182, 0, 62, 154, 0, 12, 42, 16, 45, 182, 0, 62, 153, 0, 39, 42]
abbrev dktX4_sum_0 : List UInt8 := dkwX4_sum_0 ++ dktX4_sum_1
theorem dksX4_sum_0 : cX4_sum.data.toList.drop 0 = dktX4_sum_0 := by decide +kernel
theorem dksX4_sum_1 : cX4_sum.data.toList.drop 24 = dktX4_sum_1 := dk_seg dksX4_sum_0 24 rfl rfl
theorem dksX4_sum_2 : cX4_sum.data.toList.drop 48 = dktX4_sum_2 := dk_seg dksX4_sum_1 24 rfl rfl
theorem dX4_sum_0 : decode cX4_sum 0 = .ok (.aload_n 0, 1) := dk_42 (dk_at dksX4_sum_0 0 rfl rfl)
theorem dX4_sum_1 : decode cX4_sum 1 = .ok (.invokevirtual 120, 3) := dk_182 0 120 (dk_at dksX4_sum_0 1 rfl rfl)
theorem dX4_sum_4 : decode cX4_sum 4 = .ok (.astore_n 1, 1) := dk_76 (dk_at dksX4_sum_0 4 rfl rfl)
theorem dX4_sum_5 : decode cX4_sum 5 = .ok (.aload_n 0, 1) := dk_42 (dk_at dksX4_sum_0 5 rfl rfl)
theorem dX4_sum_6 : decode cX4_sum 6 = .ok (.bipush 43, 2) := dk_16 43 (dk_at dksX4_sum_0 6 rfl rfl)
theorem dX4_sum_8 : decode cX4_sum 8 = .ok (.invokevirtual 62, 3) := dk_182 0 62 (dk_at dksX4_sum_0 8 rfl rfl)
theorem dX4_sum_11 : decode cX4_sum 11 = .ok (.ifCond .ne 12, 3) := dk_154 0 12 (dk_at dksX4_sum_0 11 rfl rfl)
theorem dX4_sum_14 : decode cX4_sum 14 = .ok (.aload_n 0, 1) := dk_42 (dk_at dksX4_sum_0 14 rfl rfl)
theorem dX4_sum_15 : decode cX4_sum 15 = .ok (.bipush 45, 2) := dk_16 45 (dk_at dksX4_sum_0 15 rfl rfl)
theorem dX4_sum_17 : decode cX4_sum 17 = .ok (.invokevirtual 62, 3) := dk_182 0 62 (dk_at dksX4_sum_0 17 rfl rfl)
theorem dX4_sum_20 : decode cX4_sum 20 = .ok (.ifCond .eq 39, 3) := dk_153 0 39 (dk_at dksX4_sum_0 20 rfl rfl)
theorem dX4_sum_23 : decode cX4_sum 23 = .ok (.aload_n 0, 1) := dk_42 (dk_at dksX4_sum_0 23 rfl rfl)
theorem dX4_sum_24 : decode cX4_sum 24 = .ok (.bipush 43, 2) := dk_16 43 (dk_at dksX4_sum_1 0 rfl rfl)
theorem dX4_sum_26 : decode cX4_sum 26 = .ok (.invokevirtual 62, 3) := dk_182 0 62 (dk_at dksX4_sum_1 2 rfl rfl)
theorem dX4_sum_29 : decode cX4_sum 29 = .ok (.ifCond .eq 7, 3) := dk_153 0 7 (dk_at dksX4_sum_1 5 rfl rfl)
theorem dX4_sum_32 : decode cX4_sum 32 = .ok (.iconst 1, 1) := dk_4 (dk_at dksX4_sum_1 8 rfl rfl)
theorem dX4_sum_33 : decode cX4_sum 33 = .ok (.goto 4, 3) := dk_167 0 4 (dk_at dksX4_sum_1 9 rfl rfl)
theorem dX4_sum_36 : decode cX4_sum 36 = .ok (.iconst (-1), 1) := dk_2 (dk_at dksX4_sum_1 12 rfl rfl)
theorem dX4_sum_37 : decode cX4_sum 37 = .ok (.istore_n 2, 1) := dk_61 (dk_at dksX4_sum_1 13 rfl rfl)
theorem dX4_sum_38 : decode cX4_sum 38 = .ok (.aload_n 0, 1) := dk_42 (dk_at dksX4_sum_1 14 rfl rfl)
theorem dX4_sum_39 : decode cX4_sum 39 = .ok (.invokevirtual 69, 3) := dk_182 0 69 (dk_at dksX4_sum_1 15 rfl rfl)
theorem dX4_sum_42 : decode cX4_sum 42 = .ok (.new 123, 3) := dk_187 0 123 (dk_at dksX4_sum_1 18 rfl rfl)
theorem dX4_sum_45 : decode cX4_sum 45 = .ok (.dup, 1) := dk_89 (dk_at dksX4_sum_1 21 rfl rfl)
theorem dX4_sum_46 : decode cX4_sum 46 = .ok (.iload_n 2, 1) := dk_28 (dk_at dksX4_sum_1 22 rfl rfl)
theorem dX4_sum_47 : decode cX4_sum 47 = .ok (.aload_n 1, 1) := dk_43 (dk_at dksX4_sum_1 23 rfl rfl)
theorem dX4_sum_48 : decode cX4_sum 48 = .ok (.aload_n 0, 1) := dk_42 (dk_at dksX4_sum_2 0 rfl rfl)
theorem dX4_sum_49 : decode cX4_sum 49 = .ok (.invokevirtual 120, 3) := dk_182 0 120 (dk_at dksX4_sum_2 1 rfl rfl)
theorem dX4_sum_52 : decode cX4_sum 52 = .ok (.invokespecial 125, 3) := dk_183 0 125 (dk_at dksX4_sum_2 4 rfl rfl)
theorem dX4_sum_55 : decode cX4_sum 55 = .ok (.astore_n 1, 1) := dk_76 (dk_at dksX4_sum_2 7 rfl rfl)
theorem dX4_sum_56 : decode cX4_sum 56 = .ok (.goto (-51), 3) := dk_167 255 205 (dk_at dksX4_sum_2 8 rfl rfl)
theorem dX4_sum_59 : decode cX4_sum 59 = .ok (.aload_n 1, 1) := dk_43 (dk_at dksX4_sum_2 11 rfl rfl)
theorem dX4_sum_60 : decode cX4_sum 60 = .ok (.areturn, 1) := dk_176 (dk_at dksX4_sum_2 12 rfl rfl)
abbrev cX4_term : ByteArray := prog_10_method_18_code
def yX4_term : MethodName := ⟨RX4, "term", "()LPlyHouse$Node;"⟩
def dkwX4_term_3 : List UInt8 := [182, 0, 69, 44, 176]
abbrev dktX4_term_3 : List UInt8 := dkwX4_term_3 ++ []
def dkwX4_term_2 : List UInt8 := [187, 0, 142, 89, 42, 180, 0, 44, 183, 0, 144, 167, 0, 11, 187, 0, 146, 89, 27, 183, 0, 148, 77, 42]
abbrev dktX4_term_2 : List UInt8 := dkwX4_term_2 ++ dktX4_term_3
def dkwX4_term_1 : List UInt8 := [160, 0, 8, 42, 182, 0, 65, 191, 42, 89, 180, 0, 139, 4, 96, 181, 0, 139, 27, 156, 0, 17]
abbrev dktX4_term_1 : List UInt8 := dkwX4_term_1 ++ dktX4_term_2
def dkwX4_term_0 : List UInt8 := [42, 182, 0, 136, 60, 42, 180, 0, 29, 5, 159, 0, 7, 27, 155, 0, 12, 42, 180, 0, 139, 16, 60]
abbrev dktX4_term_0 : List UInt8 := dkwX4_term_0 ++ dktX4_term_1
theorem dksX4_term_0 : cX4_term.data.toList.drop 0 = dktX4_term_0 := by decide +kernel
theorem dksX4_term_1 : cX4_term.data.toList.drop 23 = dktX4_term_1 := dk_seg dksX4_term_0 23 rfl rfl
theorem dksX4_term_2 : cX4_term.data.toList.drop 45 = dktX4_term_2 := dk_seg dksX4_term_1 22 rfl rfl
theorem dksX4_term_3 : cX4_term.data.toList.drop 69 = dktX4_term_3 := dk_seg dksX4_term_2 24 rfl rfl
theorem dX4_term_0 : decode cX4_term 0 = .ok (.aload_n 0, 1) := dk_42 (dk_at dksX4_term_0 0 rfl rfl)
theorem dX4_term_1 : decode cX4_term 1 = .ok (.invokevirtual 136, 3) := dk_182 0 136 (dk_at dksX4_term_0 1 rfl rfl)
theorem dX4_term_4 : decode cX4_term 4 = .ok (.istore_n 1, 1) := dk_60 (dk_at dksX4_term_0 4 rfl rfl)
theorem dX4_term_5 : decode cX4_term 5 = .ok (.aload_n 0, 1) := dk_42 (dk_at dksX4_term_0 5 rfl rfl)
theorem dX4_term_6 : decode cX4_term 6 = .ok (.getfield 29, 3) := dk_180 0 29 (dk_at dksX4_term_0 6 rfl rfl)
theorem dX4_term_9 : decode cX4_term 9 = .ok (.iconst 2, 1) := dk_5 (dk_at dksX4_term_0 9 rfl rfl)
theorem dX4_term_10 : decode cX4_term 10 = .ok (.if_icmp .eq 7, 3) := dk_159 0 7 (dk_at dksX4_term_0 10 rfl rfl)
theorem dX4_term_13 : decode cX4_term 13 = .ok (.iload_n 1, 1) := dk_27 (dk_at dksX4_term_0 13 rfl rfl)
theorem dX4_term_14 : decode cX4_term 14 = .ok (.ifCond .lt 12, 3) := dk_155 0 12 (dk_at dksX4_term_0 14 rfl rfl)
theorem dX4_term_17 : decode cX4_term 17 = .ok (.aload_n 0, 1) := dk_42 (dk_at dksX4_term_0 17 rfl rfl)
theorem dX4_term_18 : decode cX4_term 18 = .ok (.getfield 139, 3) := dk_180 0 139 (dk_at dksX4_term_0 18 rfl rfl)
theorem dX4_term_21 : decode cX4_term 21 = .ok (.bipush 60, 2) := dk_16 60 (dk_at dksX4_term_0 21 rfl rfl)
theorem dX4_term_23 : decode cX4_term 23 = .ok (.if_icmp .ne 8, 3) := dk_160 0 8 (dk_at dksX4_term_1 0 rfl rfl)
theorem dX4_term_26 : decode cX4_term 26 = .ok (.aload_n 0, 1) := dk_42 (dk_at dksX4_term_1 3 rfl rfl)
theorem dX4_term_27 : decode cX4_term 27 = .ok (.invokevirtual 65, 3) := dk_182 0 65 (dk_at dksX4_term_1 4 rfl rfl)
theorem dX4_term_30 : decode cX4_term 30 = .ok (.athrow, 1) := dk_191 (dk_at dksX4_term_1 7 rfl rfl)
theorem dX4_term_31 : decode cX4_term 31 = .ok (.aload_n 0, 1) := dk_42 (dk_at dksX4_term_1 8 rfl rfl)
theorem dX4_term_32 : decode cX4_term 32 = .ok (.dup, 1) := dk_89 (dk_at dksX4_term_1 9 rfl rfl)
theorem dX4_term_33 : decode cX4_term 33 = .ok (.getfield 139, 3) := dk_180 0 139 (dk_at dksX4_term_1 10 rfl rfl)
theorem dX4_term_36 : decode cX4_term 36 = .ok (.iconst 1, 1) := dk_4 (dk_at dksX4_term_1 13 rfl rfl)
theorem dX4_term_37 : decode cX4_term 37 = .ok (.iadd, 1) := dk_96 (dk_at dksX4_term_1 14 rfl rfl)
theorem dX4_term_38 : decode cX4_term 38 = .ok (.putfield 139, 3) := dk_181 0 139 (dk_at dksX4_term_1 15 rfl rfl)
theorem dX4_term_41 : decode cX4_term 41 = .ok (.iload_n 1, 1) := dk_27 (dk_at dksX4_term_1 18 rfl rfl)
theorem dX4_term_42 : decode cX4_term 42 = .ok (.ifCond .ge 17, 3) := dk_156 0 17 (dk_at dksX4_term_1 19 rfl rfl)
theorem dX4_term_45 : decode cX4_term 45 = .ok (.new 142, 3) := dk_187 0 142 (dk_at dksX4_term_2 0 rfl rfl)
theorem dX4_term_48 : decode cX4_term 48 = .ok (.dup, 1) := dk_89 (dk_at dksX4_term_2 3 rfl rfl)
theorem dX4_term_49 : decode cX4_term 49 = .ok (.aload_n 0, 1) := dk_42 (dk_at dksX4_term_2 4 rfl rfl)
theorem dX4_term_50 : decode cX4_term 50 = .ok (.getfield 44, 3) := dk_180 0 44 (dk_at dksX4_term_2 5 rfl rfl)
theorem dX4_term_53 : decode cX4_term 53 = .ok (.invokespecial 144, 3) := dk_183 0 144 (dk_at dksX4_term_2 8 rfl rfl)
theorem dX4_term_56 : decode cX4_term 56 = .ok (.goto 11, 3) := dk_167 0 11 (dk_at dksX4_term_2 11 rfl rfl)
theorem dX4_term_59 : decode cX4_term 59 = .ok (.new 146, 3) := dk_187 0 146 (dk_at dksX4_term_2 14 rfl rfl)
theorem dX4_term_62 : decode cX4_term 62 = .ok (.dup, 1) := dk_89 (dk_at dksX4_term_2 17 rfl rfl)
theorem dX4_term_63 : decode cX4_term 63 = .ok (.iload_n 1, 1) := dk_27 (dk_at dksX4_term_2 18 rfl rfl)
theorem dX4_term_64 : decode cX4_term 64 = .ok (.invokespecial 148, 3) := dk_183 0 148 (dk_at dksX4_term_2 19 rfl rfl)
theorem dX4_term_67 : decode cX4_term 67 = .ok (.astore_n 2, 1) := dk_77 (dk_at dksX4_term_2 22 rfl rfl)
theorem dX4_term_68 : decode cX4_term 68 = .ok (.aload_n 0, 1) := dk_42 (dk_at dksX4_term_2 23 rfl rfl)
theorem dX4_term_69 : decode cX4_term 69 = .ok (.invokevirtual 69, 3) := dk_182 0 69 (dk_at dksX4_term_3 0 rfl rfl)
theorem dX4_term_72 : decode cX4_term 72 = .ok (.aload_n 2, 1) := dk_44 (dk_at dksX4_term_3 3 rfl rfl)
theorem dX4_term_73 : decode cX4_term 73 = .ok (.areturn, 1) := dk_176 (dk_at dksX4_term_3 4 rfl rfl)
abbrev cX4_countHere : ByteArray := prog_10_method_17_code
def yX4_countHere : MethodName := ⟨RX4, "countHere", "()I"⟩
def dkwX4_countHere_2 : List UInt8 := [182, 0, 72, 153, 0, 7, 7, 167, 0, 4, 2, 172]
abbrev dktX4_countHere_2 : List UInt8 := dkwX4_countHere_2 ++ []
def dkwX4_countHere_1 : List UInt8 := [18, 130, 182, 0, 72, 153, 0, 5, 5, 172, 42, 18, 132, 182, 0, 72, 153, 0, 5, 6, 172, 42, 18, 134]
abbrev dktX4_countHere_1 : List UInt8 := dkwX4_countHere_1 ++ dktX4_countHere_2
def dkwX4_countHere_0 : List UInt8 := [42, 18, 126, 182, 0, 72, 153, 0, 5, 3, 172, 42, 18, 128, 182, 0, 72, 153, 0, 5, 4, 172, 42]
abbrev dktX4_countHere_0 : List UInt8 := dkwX4_countHere_0 ++ dktX4_countHere_1
theorem dksX4_countHere_0 : cX4_countHere.data.toList.drop 0 = dktX4_countHere_0 := by decide +kernel
theorem dksX4_countHere_1 : cX4_countHere.data.toList.drop 23 = dktX4_countHere_1 := dk_seg dksX4_countHere_0 23 rfl rfl
theorem dksX4_countHere_2 : cX4_countHere.data.toList.drop 47 = dktX4_countHere_2 := dk_seg dksX4_countHere_1 24 rfl rfl
theorem dX4_countHere_0 : decode cX4_countHere 0 = .ok (.aload_n 0, 1) := dk_42 (dk_at dksX4_countHere_0 0 rfl rfl)
theorem dX4_countHere_1 : decode cX4_countHere 1 = .ok (.ldc 126, 2) := dk_18 126 (dk_at dksX4_countHere_0 1 rfl rfl)
theorem dX4_countHere_3 : decode cX4_countHere 3 = .ok (.invokevirtual 72, 3) := dk_182 0 72 (dk_at dksX4_countHere_0 3 rfl rfl)
theorem dX4_countHere_6 : decode cX4_countHere 6 = .ok (.ifCond .eq 5, 3) := dk_153 0 5 (dk_at dksX4_countHere_0 6 rfl rfl)
theorem dX4_countHere_9 : decode cX4_countHere 9 = .ok (.iconst 0, 1) := dk_3 (dk_at dksX4_countHere_0 9 rfl rfl)
theorem dX4_countHere_10 : decode cX4_countHere 10 = .ok (.ireturn, 1) := dk_172 (dk_at dksX4_countHere_0 10 rfl rfl)
theorem dX4_countHere_11 : decode cX4_countHere 11 = .ok (.aload_n 0, 1) := dk_42 (dk_at dksX4_countHere_0 11 rfl rfl)
theorem dX4_countHere_12 : decode cX4_countHere 12 = .ok (.ldc 128, 2) := dk_18 128 (dk_at dksX4_countHere_0 12 rfl rfl)
theorem dX4_countHere_14 : decode cX4_countHere 14 = .ok (.invokevirtual 72, 3) := dk_182 0 72 (dk_at dksX4_countHere_0 14 rfl rfl)
theorem dX4_countHere_17 : decode cX4_countHere 17 = .ok (.ifCond .eq 5, 3) := dk_153 0 5 (dk_at dksX4_countHere_0 17 rfl rfl)
theorem dX4_countHere_20 : decode cX4_countHere 20 = .ok (.iconst 1, 1) := dk_4 (dk_at dksX4_countHere_0 20 rfl rfl)
theorem dX4_countHere_21 : decode cX4_countHere 21 = .ok (.ireturn, 1) := dk_172 (dk_at dksX4_countHere_0 21 rfl rfl)
theorem dX4_countHere_22 : decode cX4_countHere 22 = .ok (.aload_n 0, 1) := dk_42 (dk_at dksX4_countHere_0 22 rfl rfl)
theorem dX4_countHere_23 : decode cX4_countHere 23 = .ok (.ldc 130, 2) := dk_18 130 (dk_at dksX4_countHere_1 0 rfl rfl)
theorem dX4_countHere_25 : decode cX4_countHere 25 = .ok (.invokevirtual 72, 3) := dk_182 0 72 (dk_at dksX4_countHere_1 2 rfl rfl)
theorem dX4_countHere_28 : decode cX4_countHere 28 = .ok (.ifCond .eq 5, 3) := dk_153 0 5 (dk_at dksX4_countHere_1 5 rfl rfl)
theorem dX4_countHere_31 : decode cX4_countHere 31 = .ok (.iconst 2, 1) := dk_5 (dk_at dksX4_countHere_1 8 rfl rfl)
theorem dX4_countHere_32 : decode cX4_countHere 32 = .ok (.ireturn, 1) := dk_172 (dk_at dksX4_countHere_1 9 rfl rfl)
theorem dX4_countHere_33 : decode cX4_countHere 33 = .ok (.aload_n 0, 1) := dk_42 (dk_at dksX4_countHere_1 10 rfl rfl)
theorem dX4_countHere_34 : decode cX4_countHere 34 = .ok (.ldc 132, 2) := dk_18 132 (dk_at dksX4_countHere_1 11 rfl rfl)
theorem dX4_countHere_36 : decode cX4_countHere 36 = .ok (.invokevirtual 72, 3) := dk_182 0 72 (dk_at dksX4_countHere_1 13 rfl rfl)
theorem dX4_countHere_39 : decode cX4_countHere 39 = .ok (.ifCond .eq 5, 3) := dk_153 0 5 (dk_at dksX4_countHere_1 16 rfl rfl)
theorem dX4_countHere_42 : decode cX4_countHere 42 = .ok (.iconst 3, 1) := dk_6 (dk_at dksX4_countHere_1 19 rfl rfl)
theorem dX4_countHere_43 : decode cX4_countHere 43 = .ok (.ireturn, 1) := dk_172 (dk_at dksX4_countHere_1 20 rfl rfl)
theorem dX4_countHere_44 : decode cX4_countHere 44 = .ok (.aload_n 0, 1) := dk_42 (dk_at dksX4_countHere_1 21 rfl rfl)
theorem dX4_countHere_45 : decode cX4_countHere 45 = .ok (.ldc 134, 2) := dk_18 134 (dk_at dksX4_countHere_1 22 rfl rfl)
theorem dX4_countHere_47 : decode cX4_countHere 47 = .ok (.invokevirtual 72, 3) := dk_182 0 72 (dk_at dksX4_countHere_2 0 rfl rfl)
theorem dX4_countHere_50 : decode cX4_countHere 50 = .ok (.ifCond .eq 7, 3) := dk_153 0 7 (dk_at dksX4_countHere_2 3 rfl rfl)
theorem dX4_countHere_53 : decode cX4_countHere 53 = .ok (.iconst 4, 1) := dk_7 (dk_at dksX4_countHere_2 6 rfl rfl)
theorem dX4_countHere_54 : decode cX4_countHere 54 = .ok (.goto 4, 3) := dk_167 0 4 (dk_at dksX4_countHere_2 7 rfl rfl)
theorem dX4_countHere_57 : decode cX4_countHere 57 = .ok (.iconst (-1), 1) := dk_2 (dk_at dksX4_countHere_2 10 rfl rfl)
theorem dX4_countHere_58 : decode cX4_countHere 58 = .ok (.ireturn, 1) := dk_172 (dk_at dksX4_countHere_2 11 rfl rfl)
theorem q58 : (Jvm.Cond.initialized "PlyHouse$Reader") ∈ lw_all := lw_g (lw_at lw_m1 5 rfl) rfl
theorem q122 : (Jvm.Cond.instantiable "PlyHouse$Reader" (8 : Nat)) ∈ lw_all := lw_g (lw_at lw_m1 69 rfl) rfl
theorem q124 : (Jvm.Cond.instanceMethod ({ cls := "PlyHouse$Reader", name := "<init>", desc := "([BI)V" } : Jvm.MethodName)) ∈ lw_all := lw_g (lw_at lw_m1 71 rfl) rfl
theorem q125 : (Jvm.Cond.code ({ cls := "PlyHouse$Reader", name := "<init>", desc := "([BI)V" } : Jvm.MethodName) prog_10_method_1_code (3 : Nat) (Option.none : Option Jvm.ClassFile.FieldType)) ∈ lw_all := lw_g (lw_at lw_m1 72 rfl) rfl
theorem q126 : (Jvm.Cond.methodLink "PlyHouse$Reader" (3 : Nat) ({ cls := "java/lang/Object", name := "<init>", desc := "()V" } : Jvm.MethodName)) ∈ lw_all := lw_g (lw_at lw_m1 73 rfl) rfl
theorem q129 : (Jvm.Cond.fieldLink "PlyHouse$Reader" (9 : Nat) "PlyHouse$Reader" "text" "[B") ∈ lw_all := lw_g (lw_at lw_m1 76 rfl) rfl
theorem q130 : (Jvm.Cond.fieldLink "PlyHouse$Reader" (15 : Nat) "PlyHouse$Reader" "size" "I") ∈ lw_all := lw_g (lw_at lw_m1 77 rfl) rfl
theorem q131 : (Jvm.Cond.fieldLink "PlyHouse$Reader" (22 : Nat) "PlyHouse$Reader" "at" "I") ∈ lw_all := lw_g (lw_at lw_m1 78 rfl) rfl
theorem q132 : (Jvm.Cond.fieldLink "PlyHouse$Reader" (19 : Nat) "PlyHouse$Reader" "end" "I") ∈ lw_all := lw_g (lw_at lw_m1 79 rfl) rfl
theorem q133 : (Jvm.Cond.fieldLink "PlyHouse$Reader" (29 : Nat) "PlyHouse$Reader" "token" "I") ∈ lw_all := lw_g (lw_at lw_m1 80 rfl) rfl
theorem q134 : (Jvm.Cond.fieldLink "PlyHouse$Reader" (44 : Nat) "PlyHouse$Reader" "number" "I") ∈ lw_all := lw_g (lw_at lw_m1 81 rfl) rfl
theorem q135 : (Jvm.Cond.fieldLink "PlyHouse$Reader" (139 : Nat) "PlyHouse$Reader" "terms" "I") ∈ lw_all := lw_g (lw_at lw_m1 82 rfl) rfl
theorem q136 : (Jvm.Cond.fieldLink "PlyHouse$Reader" (76 : Nat) "PlyHouse$Reader" "within" "I") ∈ lw_all := lw_g (lw_at lw_m1 83 rfl) rfl
theorem q137 : (Jvm.Cond.laysFinal "PlyHouse$Reader" "PlyHouse$Reader" "text" "[B") ∈ lw_all := lw_g (lw_at lw_m1 84 rfl) rfl
theorem q138 : (Jvm.Cond.soleField "PlyHouse$Reader" "text") ∈ lw_all := lw_g (lw_at lw_m1 85 rfl) rfl
theorem q139 : (Jvm.Cond.laysFinal "PlyHouse$Reader" "PlyHouse$Reader" "size" "I") ∈ lw_all := lw_g (lw_at lw_m1 86 rfl) rfl
theorem q140 : (Jvm.Cond.soleField "PlyHouse$Reader" "size") ∈ lw_all := lw_g (lw_at lw_m1 87 rfl) rfl
theorem q141 : (Jvm.Cond.lays "PlyHouse$Reader" "PlyHouse$Reader" "at" "I") ∈ lw_all := lw_g (lw_at lw_m1 88 rfl) rfl
theorem q142 : (Jvm.Cond.soleField "PlyHouse$Reader" "at") ∈ lw_all := lw_g (lw_at lw_m1 89 rfl) rfl
theorem q143 : (Jvm.Cond.lays "PlyHouse$Reader" "PlyHouse$Reader" "end" "I") ∈ lw_all := lw_g (lw_at lw_m1 90 rfl) rfl
theorem q144 : (Jvm.Cond.soleField "PlyHouse$Reader" "end") ∈ lw_all := lw_g (lw_at lw_m1 91 rfl) rfl
theorem q145 : (Jvm.Cond.lays "PlyHouse$Reader" "PlyHouse$Reader" "token" "I") ∈ lw_all := lw_g (lw_at lw_m1 92 rfl) rfl
theorem q146 : (Jvm.Cond.soleField "PlyHouse$Reader" "token") ∈ lw_all := lw_g (lw_at lw_m1 93 rfl) rfl
theorem q147 : (Jvm.Cond.lays "PlyHouse$Reader" "PlyHouse$Reader" "number" "I") ∈ lw_all := lw_g (lw_at lw_m1 94 rfl) rfl
theorem q148 : (Jvm.Cond.soleField "PlyHouse$Reader" "number") ∈ lw_all := lw_g (lw_at lw_m1 95 rfl) rfl
theorem q149 : (Jvm.Cond.lays "PlyHouse$Reader" "PlyHouse$Reader" "terms" "I") ∈ lw_all := lw_g (lw_at lw_m1 96 rfl) rfl
theorem q150 : (Jvm.Cond.soleField "PlyHouse$Reader" "terms") ∈ lw_all := lw_g (lw_at lw_m1 97 rfl) rfl
theorem q151 : (Jvm.Cond.lays "PlyHouse$Reader" "PlyHouse$Reader" "within" "I") ∈ lw_all := lw_g (lw_at lw_m1 98 rfl) rfl
theorem q152 : (Jvm.Cond.soleField "PlyHouse$Reader" "within") ∈ lw_all := lw_g (lw_at lw_m1 99 rfl) rfl
theorem q153 : (Jvm.Cond.superclass "PlyHouse$Reader" "java/lang/Object") ∈ lw_all := lw_g (lw_at lw_m1 100 rfl) rfl
theorem q159 : (Jvm.Cond.instanceMethod ({ cls := "PlyHouse$Reader", name := "read", desc := "()LPlyHouse$Grades;" } : Jvm.MethodName)) ∈ lw_all := lw_g (lw_at lw_m1 106 rfl) rfl
theorem q160 : (Jvm.Cond.selects "PlyHouse$Reader" ({ cls := "PlyHouse$Reader", name := "read", desc := "()LPlyHouse$Grades;" } : Jvm.MethodName) ({ cls := "PlyHouse$Reader", name := "read", desc := "()LPlyHouse$Grades;" } : Jvm.MethodName)) ∈ lw_all := lw_g (lw_at lw_m1 107 rfl) rfl
theorem q161 : (Jvm.Cond.code ({ cls := "PlyHouse$Reader", name := "read", desc := "()LPlyHouse$Grades;" } : Jvm.MethodName) prog_10_method_19_code (2 : Nat) (Option.some (Jvm.ClassFile.FieldType.object "PlyHouse$Grades"))) ∈ lw_all := lw_g (lw_at lw_m1 108 rfl) rfl
theorem q162 : (Jvm.Cond.classLink "PlyHouse$Reader" (149 : Nat) "PlyHouse$Grades") ∈ lw_all := lw_g (lw_at lw_m1 109 rfl) rfl
theorem q164 : (Jvm.Cond.methodLinkNest "PlyHouse$Reader" (151 : Nat) ({ cls := "PlyHouse$Grades", name := "<init>", desc := "()V" } : Jvm.MethodName) "PlyHouse") ∈ lw_tbl := lw_at lw_m1 111 rfl
theorem q172 : (Jvm.Cond.fieldLinkNest "PlyHouse$Reader" (157 : Nat) "PlyHouse$Grades" "widths" "[I" "PlyHouse") ∈ lw_tbl := lw_at lw_m1 119 rfl
theorem q174 : (Jvm.Cond.fieldLinkNest "PlyHouse$Reader" (170 : Nat) "PlyHouse$Grades" "worths" "[I" "PlyHouse") ∈ lw_tbl := lw_at lw_m1 121 rfl
theorem q178 : (Jvm.Cond.fieldLinkNest "PlyHouse$Reader" (175 : Nat) "PlyHouse$Grades" "whens" "[LPlyHouse$Node;" "PlyHouse") ∈ lw_tbl := lw_at lw_m1 125 rfl
theorem q180 : (Jvm.Cond.fieldLinkNest "PlyHouse$Reader" (154 : Nat) "PlyHouse$Grades" "many" "I" "PlyHouse") ∈ lw_tbl := lw_at lw_m1 127 rfl
theorem q191 : (Jvm.Cond.methodLink "PlyHouse$Reader" (69 : Nat) ({ cls := "PlyHouse$Reader", name := "next", desc := "()V" } : Jvm.MethodName)) ∈ lw_all := lw_g (lw_at lw_m1 138 rfl) rfl
theorem q192 : (Jvm.Cond.instanceMethod ({ cls := "PlyHouse$Reader", name := "next", desc := "()V" } : Jvm.MethodName)) ∈ lw_all := lw_g (lw_at lw_m1 139 rfl) rfl
theorem q193 : (Jvm.Cond.selects "PlyHouse$Reader" ({ cls := "PlyHouse$Reader", name := "next", desc := "()V" } : Jvm.MethodName) ({ cls := "PlyHouse$Reader", name := "next", desc := "()V" } : Jvm.MethodName)) ∈ lw_all := lw_g (lw_at lw_m1 140 rfl) rfl
theorem q194 : (Jvm.Cond.code ({ cls := "PlyHouse$Reader", name := "next", desc := "()V" } : Jvm.MethodName) prog_10_method_5_code (2 : Nat) (Option.none : Option Jvm.ClassFile.FieldType)) ∈ lw_all := lw_g (lw_at lw_m1 141 rfl) rfl
theorem q195 : (Jvm.Cond.methodLink "PlyHouse$Reader" (25 : Nat) ({ cls := "PlyHouse$Reader", name := "sign", desc := "(I)I" } : Jvm.MethodName)) ∈ lw_all := lw_g (lw_at lw_m1 142 rfl) rfl
theorem q196 : (Jvm.Cond.instanceMethod ({ cls := "PlyHouse$Reader", name := "sign", desc := "(I)I" } : Jvm.MethodName)) ∈ lw_all := lw_g (lw_at lw_m1 143 rfl) rfl
theorem q197 : (Jvm.Cond.selects "PlyHouse$Reader" ({ cls := "PlyHouse$Reader", name := "sign", desc := "(I)I" } : Jvm.MethodName) ({ cls := "PlyHouse$Reader", name := "sign", desc := "(I)I" } : Jvm.MethodName)) ∈ lw_all := lw_g (lw_at lw_m1 144 rfl) rfl
theorem q198 : (Jvm.Cond.code ({ cls := "PlyHouse$Reader", name := "sign", desc := "(I)I" } : Jvm.MethodName) prog_10_method_2_code (2 : Nat) (Option.some Jvm.ClassFile.FieldType.int)) ∈ lw_all := lw_g (lw_at lw_m1 145 rfl) rfl
theorem q199 : (Jvm.Cond.methodLink "PlyHouse$Reader" (32 : Nat) ({ cls := "PlyHouse$Reader", name := "isLetter", desc := "(I)Z" } : Jvm.MethodName)) ∈ lw_all := lw_g (lw_at lw_m1 146 rfl) rfl
theorem q200 : (Jvm.Cond.static ({ cls := "PlyHouse$Reader", name := "isLetter", desc := "(I)Z" } : Jvm.MethodName)) ∈ lw_all := lw_g (lw_at lw_m1 147 rfl) rfl
theorem q201 : (Jvm.Cond.code ({ cls := "PlyHouse$Reader", name := "isLetter", desc := "(I)Z" } : Jvm.MethodName) prog_10_method_3_code (1 : Nat) (Option.some Jvm.ClassFile.FieldType.boolean)) ∈ lw_all := lw_g (lw_at lw_m1 148 rfl) rfl
theorem q202 : (Jvm.Cond.classLink "PlyHouse$Reader" (36 : Nat) "PlyHouse$Wrong") ∈ lw_all := lw_g (lw_at lw_m1 149 rfl) rfl
theorem q239 : (Jvm.Cond.methodLink "PlyHouse$Reader" (38 : Nat) ({ cls := "PlyHouse$Wrong", name := "<init>", desc := "(II)V" } : Jvm.MethodName)) ∈ lw_all := lw_g (lw_at lw_m1 186 rfl) rfl
theorem q266 : (Jvm.Cond.methodLink "PlyHouse$Reader" (41 : Nat) ({ cls := "PlyHouse$Reader", name := "isDigit", desc := "(I)Z" } : Jvm.MethodName)) ∈ lw_all := lw_g (lw_at lw_m1 213 rfl) rfl
theorem q267 : (Jvm.Cond.static ({ cls := "PlyHouse$Reader", name := "isDigit", desc := "(I)Z" } : Jvm.MethodName)) ∈ lw_all := lw_g (lw_at lw_m1 214 rfl) rfl
theorem q268 : (Jvm.Cond.code ({ cls := "PlyHouse$Reader", name := "isDigit", desc := "(I)Z" } : Jvm.MethodName) prog_10_method_4_code (1 : Nat) (Option.some Jvm.ClassFile.FieldType.boolean)) ∈ lw_all := lw_g (lw_at lw_m1 215 rfl) rfl
theorem q269 : (Jvm.Cond.stringRef "PlyHouse$Reader" (47 : Nat) ";()<>=+-") ∈ lw_tbl := lw_at lw_m1 216 rfl
theorem q270 : (Jvm.Cond.methodLink "PlyHouse$Reader" (49 : Nat) ({ cls := "java/lang/String", name := "indexOf", desc := "(I)I" } : Jvm.MethodName)) ∈ lw_all := lw_g (lw_at lw_m1 217 rfl) rfl
theorem q356 : (Jvm.Cond.stringRef "PlyHouse$Reader" (152 : Nat) "grade") ∈ lw_tbl := lw_at lw_m2 63 rfl
theorem q357 : (Jvm.Cond.methodLink "PlyHouse$Reader" (72 : Nat) ({ cls := "PlyHouse$Reader", name := "isWord", desc := "(Ljava/lang/String;)Z" } : Jvm.MethodName)) ∈ lw_all := lw_g (lw_at lw_m2 64 rfl) rfl
theorem q358 : (Jvm.Cond.instanceMethod ({ cls := "PlyHouse$Reader", name := "isWord", desc := "(Ljava/lang/String;)Z" } : Jvm.MethodName)) ∈ lw_all := lw_g (lw_at lw_m2 65 rfl) rfl
theorem q359 : (Jvm.Cond.selects "PlyHouse$Reader" ({ cls := "PlyHouse$Reader", name := "isWord", desc := "(Ljava/lang/String;)Z" } : Jvm.MethodName) ({ cls := "PlyHouse$Reader", name := "isWord", desc := "(Ljava/lang/String;)Z" } : Jvm.MethodName)) ∈ lw_all := lw_g (lw_at lw_m2 66 rfl) rfl
theorem q360 : (Jvm.Cond.code ({ cls := "PlyHouse$Reader", name := "isWord", desc := "(Ljava/lang/String;)Z" } : Jvm.MethodName) prog_10_method_7_code (3 : Nat) (Option.some Jvm.ClassFile.FieldType.boolean)) ∈ lw_all := lw_g (lw_at lw_m2 67 rfl) rfl
theorem q361 : (Jvm.Cond.methodLink "PlyHouse$Reader" (54 : Nat) ({ cls := "java/lang/String", name := "length", desc := "()I" } : Jvm.MethodName)) ∈ lw_all := lw_g (lw_at lw_m2 68 rfl) rfl
theorem q362 : (Jvm.Cond.methodLink "PlyHouse$Reader" (58 : Nat) ({ cls := "java/lang/String", name := "charAt", desc := "(I)C" } : Jvm.MethodName)) ∈ lw_all := lw_g (lw_at lw_m2 69 rfl) rfl
theorem q382 : (Jvm.Cond.methodLink "PlyHouse$Reader" (65 : Nat) ({ cls := "PlyHouse$Reader", name := "wrong", desc := "()LPlyHouse$Wrong;" } : Jvm.MethodName)) ∈ lw_all := lw_g (lw_at lw_m2 89 rfl) rfl
theorem q383 : (Jvm.Cond.instanceMethod ({ cls := "PlyHouse$Reader", name := "wrong", desc := "()LPlyHouse$Wrong;" } : Jvm.MethodName)) ∈ lw_all := lw_g (lw_at lw_m2 90 rfl) rfl
theorem q384 : (Jvm.Cond.selects "PlyHouse$Reader" ({ cls := "PlyHouse$Reader", name := "wrong", desc := "()LPlyHouse$Wrong;" } : Jvm.MethodName) ({ cls := "PlyHouse$Reader", name := "wrong", desc := "()LPlyHouse$Wrong;" } : Jvm.MethodName)) ∈ lw_all := lw_g (lw_at lw_m2 91 rfl) rfl
theorem q385 : (Jvm.Cond.code ({ cls := "PlyHouse$Reader", name := "wrong", desc := "()LPlyHouse$Wrong;" } : Jvm.MethodName) prog_10_method_8_code (1 : Nat) (Option.some (Jvm.ClassFile.FieldType.object "PlyHouse$Wrong"))) ∈ lw_all := lw_g (lw_at lw_m2 92 rfl) rfl
theorem q386 : (Jvm.Cond.methodLink "PlyHouse$Reader" (161 : Nat) ({ cls := "PlyHouse$Reader", name := "number", desc := "(II)I" } : Jvm.MethodName)) ∈ lw_all := lw_g (lw_at lw_m2 93 rfl) rfl
theorem q387 : (Jvm.Cond.instanceMethod ({ cls := "PlyHouse$Reader", name := "number", desc := "(II)I" } : Jvm.MethodName)) ∈ lw_all := lw_g (lw_at lw_m2 94 rfl) rfl
theorem q388 : (Jvm.Cond.selects "PlyHouse$Reader" ({ cls := "PlyHouse$Reader", name := "number", desc := "(II)I" } : Jvm.MethodName) ({ cls := "PlyHouse$Reader", name := "number", desc := "(II)I" } : Jvm.MethodName)) ∈ lw_all := lw_g (lw_at lw_m2 95 rfl) rfl
theorem q389 : (Jvm.Cond.code ({ cls := "PlyHouse$Reader", name := "number", desc := "(II)I" } : Jvm.MethodName) prog_10_method_11_code (4 : Nat) (Option.some Jvm.ClassFile.FieldType.int)) ∈ lw_all := lw_g (lw_at lw_m2 96 rfl) rfl
theorem q390 : (Jvm.Cond.stringRef "PlyHouse$Reader" (164 : Nat) "worth") ∈ lw_tbl := lw_at lw_m2 97 rfl
theorem q391 : (Jvm.Cond.methodLink "PlyHouse$Reader" (166 : Nat) ({ cls := "PlyHouse$Reader", name := "mustWord", desc := "(Ljava/lang/String;)V" } : Jvm.MethodName)) ∈ lw_all := lw_g (lw_at lw_m2 98 rfl) rfl
theorem q392 : (Jvm.Cond.instanceMethod ({ cls := "PlyHouse$Reader", name := "mustWord", desc := "(Ljava/lang/String;)V" } : Jvm.MethodName)) ∈ lw_all := lw_g (lw_at lw_m2 99 rfl) rfl
theorem q393 : (Jvm.Cond.selects "PlyHouse$Reader" ({ cls := "PlyHouse$Reader", name := "mustWord", desc := "(Ljava/lang/String;)V" } : Jvm.MethodName) ({ cls := "PlyHouse$Reader", name := "mustWord", desc := "(Ljava/lang/String;)V" } : Jvm.MethodName)) ∈ lw_all := lw_g (lw_at lw_m2 100 rfl) rfl
theorem q394 : (Jvm.Cond.code ({ cls := "PlyHouse$Reader", name := "mustWord", desc := "(Ljava/lang/String;)V" } : Jvm.MethodName) prog_10_method_10_code (2 : Nat) (Option.none : Option Jvm.ClassFile.FieldType)) ∈ lw_all := lw_g (lw_at lw_m2 101 rfl) rfl
theorem q395 : (Jvm.Cond.stringRef "PlyHouse$Reader" (173 : Nat) "when") ∈ lw_tbl := lw_at lw_m2 102 rfl
theorem q396 : (Jvm.Cond.methodLink "PlyHouse$Reader" (105 : Nat) ({ cls := "PlyHouse$Reader", name := "e", desc := "()LPlyHouse$Node;" } : Jvm.MethodName)) ∈ lw_all := lw_g (lw_at lw_m2 103 rfl) rfl
theorem q397 : (Jvm.Cond.instanceMethod ({ cls := "PlyHouse$Reader", name := "e", desc := "()LPlyHouse$Node;" } : Jvm.MethodName)) ∈ lw_all := lw_g (lw_at lw_m2 104 rfl) rfl
theorem q398 : (Jvm.Cond.selects "PlyHouse$Reader" ({ cls := "PlyHouse$Reader", name := "e", desc := "()LPlyHouse$Node;" } : Jvm.MethodName) ({ cls := "PlyHouse$Reader", name := "e", desc := "()LPlyHouse$Node;" } : Jvm.MethodName)) ∈ lw_all := lw_g (lw_at lw_m2 105 rfl) rfl
theorem q399 : (Jvm.Cond.code ({ cls := "PlyHouse$Reader", name := "e", desc := "()LPlyHouse$Node;" } : Jvm.MethodName) prog_10_method_13_code (2 : Nat) (Option.some (Jvm.ClassFile.FieldType.object "PlyHouse$Node"))) ∈ lw_all := lw_g (lw_at lw_m2 106 rfl) rfl
theorem q400 : (Jvm.Cond.methodLink "PlyHouse$Reader" (79 : Nat) ({ cls := "PlyHouse$Reader", name := "both", desc := "()LPlyHouse$Node;" } : Jvm.MethodName)) ∈ lw_all := lw_g (lw_at lw_m2 107 rfl) rfl
theorem q401 : (Jvm.Cond.privateMethod ({ cls := "PlyHouse$Reader", name := "both", desc := "()LPlyHouse$Node;" } : Jvm.MethodName)) ∈ lw_tbl := lw_at lw_m2 108 rfl
theorem q402 : (Jvm.Cond.instanceMethod ({ cls := "PlyHouse$Reader", name := "both", desc := "()LPlyHouse$Node;" } : Jvm.MethodName)) ∈ lw_all := lw_g (lw_at lw_m2 109 rfl) rfl
theorem q403 : (Jvm.Cond.code ({ cls := "PlyHouse$Reader", name := "both", desc := "()LPlyHouse$Node;" } : Jvm.MethodName) prog_10_method_14_code (2 : Nat) (Option.some (Jvm.ClassFile.FieldType.object "PlyHouse$Node"))) ∈ lw_all := lw_g (lw_at lw_m2 110 rfl) rfl
theorem q404 : (Jvm.Cond.methodLink "PlyHouse$Reader" (90 : Nat) ({ cls := "PlyHouse$Reader", name := "one", desc := "()LPlyHouse$Node;" } : Jvm.MethodName)) ∈ lw_all := lw_g (lw_at lw_m2 111 rfl) rfl
theorem q405 : (Jvm.Cond.privateMethod ({ cls := "PlyHouse$Reader", name := "one", desc := "()LPlyHouse$Node;" } : Jvm.MethodName)) ∈ lw_tbl := lw_at lw_m2 112 rfl
theorem q406 : (Jvm.Cond.instanceMethod ({ cls := "PlyHouse$Reader", name := "one", desc := "()LPlyHouse$Node;" } : Jvm.MethodName)) ∈ lw_all := lw_g (lw_at lw_m2 113 rfl) rfl
theorem q407 : (Jvm.Cond.code ({ cls := "PlyHouse$Reader", name := "one", desc := "()LPlyHouse$Node;" } : Jvm.MethodName) prog_10_method_15_code (3 : Nat) (Option.some (Jvm.ClassFile.FieldType.object "PlyHouse$Node"))) ∈ lw_all := lw_g (lw_at lw_m2 114 rfl) rfl
theorem q408 : (Jvm.Cond.stringRef "PlyHouse$Reader" (95 : Nat) "not") ∈ lw_tbl := lw_at lw_m2 115 rfl
theorem q409 : (Jvm.Cond.methodLink "PlyHouse$Reader" (97 : Nat) ({ cls := "PlyHouse$Reader", name := "goIn", desc := "()V" } : Jvm.MethodName)) ∈ lw_all := lw_g (lw_at lw_m2 116 rfl) rfl
theorem q410 : (Jvm.Cond.privateMethod ({ cls := "PlyHouse$Reader", name := "goIn", desc := "()V" } : Jvm.MethodName)) ∈ lw_tbl := lw_at lw_m2 117 rfl
theorem q411 : (Jvm.Cond.instanceMethod ({ cls := "PlyHouse$Reader", name := "goIn", desc := "()V" } : Jvm.MethodName)) ∈ lw_all := lw_g (lw_at lw_m2 118 rfl) rfl
theorem q412 : (Jvm.Cond.code ({ cls := "PlyHouse$Reader", name := "goIn", desc := "()V" } : Jvm.MethodName) prog_10_method_12_code (1 : Nat) (Option.none : Option Jvm.ClassFile.FieldType)) ∈ lw_all := lw_g (lw_at lw_m2 119 rfl) rfl
theorem q413 : (Jvm.Cond.classLink "PlyHouse$Reader" (100 : Nat) "PlyHouse$Not") ∈ lw_all := lw_g (lw_at lw_m2 120 rfl) rfl
theorem q415 : (Jvm.Cond.methodLink "PlyHouse$Reader" (102 : Nat) ({ cls := "PlyHouse$Not", name := "<init>", desc := "(LPlyHouse$Node;)V" } : Jvm.MethodName)) ∈ lw_all := lw_g (lw_at lw_m2 122 rfl) rfl
theorem q427 : (Jvm.Cond.methodLink "PlyHouse$Reader" (62 : Nat) ({ cls := "PlyHouse$Reader", name := "is", desc := "(I)Z" } : Jvm.MethodName)) ∈ lw_all := lw_g (lw_at lw_m2 134 rfl) rfl
theorem q428 : (Jvm.Cond.instanceMethod ({ cls := "PlyHouse$Reader", name := "is", desc := "(I)Z" } : Jvm.MethodName)) ∈ lw_all := lw_g (lw_at lw_m2 135 rfl) rfl
theorem q429 : (Jvm.Cond.selects "PlyHouse$Reader" ({ cls := "PlyHouse$Reader", name := "is", desc := "(I)Z" } : Jvm.MethodName) ({ cls := "PlyHouse$Reader", name := "is", desc := "(I)Z" } : Jvm.MethodName)) ∈ lw_all := lw_g (lw_at lw_m2 136 rfl) rfl
theorem q430 : (Jvm.Cond.code ({ cls := "PlyHouse$Reader", name := "is", desc := "(I)Z" } : Jvm.MethodName) prog_10_method_6_code (2 : Nat) (Option.some Jvm.ClassFile.FieldType.boolean)) ∈ lw_all := lw_g (lw_at lw_m2 137 rfl) rfl
theorem q431 : (Jvm.Cond.methodLink "PlyHouse$Reader" (108 : Nat) ({ cls := "PlyHouse$Reader", name := "must", desc := "(I)V" } : Jvm.MethodName)) ∈ lw_all := lw_g (lw_at lw_m2 138 rfl) rfl
theorem q432 : (Jvm.Cond.instanceMethod ({ cls := "PlyHouse$Reader", name := "must", desc := "(I)V" } : Jvm.MethodName)) ∈ lw_all := lw_g (lw_at lw_m2 139 rfl) rfl
theorem q433 : (Jvm.Cond.selects "PlyHouse$Reader" ({ cls := "PlyHouse$Reader", name := "must", desc := "(I)V" } : Jvm.MethodName) ({ cls := "PlyHouse$Reader", name := "must", desc := "(I)V" } : Jvm.MethodName)) ∈ lw_all := lw_g (lw_at lw_m2 140 rfl) rfl
theorem q434 : (Jvm.Cond.code ({ cls := "PlyHouse$Reader", name := "must", desc := "(I)V" } : Jvm.MethodName) prog_10_method_9_code (2 : Nat) (Option.none : Option Jvm.ClassFile.FieldType)) ∈ lw_all := lw_g (lw_at lw_m2 141 rfl) rfl
theorem q435 : (Jvm.Cond.methodLink "PlyHouse$Reader" (112 : Nat) ({ cls := "PlyHouse$Reader", name := "sum", desc := "()LPlyHouse$Node;" } : Jvm.MethodName)) ∈ lw_all := lw_g (lw_at lw_m2 142 rfl) rfl
theorem q436 : (Jvm.Cond.privateMethod ({ cls := "PlyHouse$Reader", name := "sum", desc := "()LPlyHouse$Node;" } : Jvm.MethodName)) ∈ lw_tbl := lw_at lw_m2 143 rfl
theorem q437 : (Jvm.Cond.instanceMethod ({ cls := "PlyHouse$Reader", name := "sum", desc := "()LPlyHouse$Node;" } : Jvm.MethodName)) ∈ lw_all := lw_g (lw_at lw_m2 144 rfl) rfl
theorem q438 : (Jvm.Cond.code ({ cls := "PlyHouse$Reader", name := "sum", desc := "()LPlyHouse$Node;" } : Jvm.MethodName) prog_10_method_16_code (3 : Nat) (Option.some (Jvm.ClassFile.FieldType.object "PlyHouse$Node"))) ∈ lw_all := lw_g (lw_at lw_m2 145 rfl) rfl
theorem q439 : (Jvm.Cond.methodLink "PlyHouse$Reader" (120 : Nat) ({ cls := "PlyHouse$Reader", name := "term", desc := "()LPlyHouse$Node;" } : Jvm.MethodName)) ∈ lw_all := lw_g (lw_at lw_m2 146 rfl) rfl
theorem q440 : (Jvm.Cond.privateMethod ({ cls := "PlyHouse$Reader", name := "term", desc := "()LPlyHouse$Node;" } : Jvm.MethodName)) ∈ lw_tbl := lw_at lw_m2 147 rfl
theorem q441 : (Jvm.Cond.instanceMethod ({ cls := "PlyHouse$Reader", name := "term", desc := "()LPlyHouse$Node;" } : Jvm.MethodName)) ∈ lw_all := lw_g (lw_at lw_m2 148 rfl) rfl
theorem q442 : (Jvm.Cond.code ({ cls := "PlyHouse$Reader", name := "term", desc := "()LPlyHouse$Node;" } : Jvm.MethodName) prog_10_method_18_code (3 : Nat) (Option.some (Jvm.ClassFile.FieldType.object "PlyHouse$Node"))) ∈ lw_all := lw_g (lw_at lw_m2 149 rfl) rfl
theorem q443 : (Jvm.Cond.methodLink "PlyHouse$Reader" (136 : Nat) ({ cls := "PlyHouse$Reader", name := "countHere", desc := "()I" } : Jvm.MethodName)) ∈ lw_all := lw_g (lw_at lw_m2 150 rfl) rfl
theorem q444 : (Jvm.Cond.privateMethod ({ cls := "PlyHouse$Reader", name := "countHere", desc := "()I" } : Jvm.MethodName)) ∈ lw_tbl := lw_at lw_m2 151 rfl
theorem q445 : (Jvm.Cond.instanceMethod ({ cls := "PlyHouse$Reader", name := "countHere", desc := "()I" } : Jvm.MethodName)) ∈ lw_all := lw_g (lw_at lw_m2 152 rfl) rfl
theorem q446 : (Jvm.Cond.code ({ cls := "PlyHouse$Reader", name := "countHere", desc := "()I" } : Jvm.MethodName) prog_10_method_17_code (1 : Nat) (Option.some Jvm.ClassFile.FieldType.int)) ∈ lw_all := lw_g (lw_at lw_m2 153 rfl) rfl
theorem q447 : (Jvm.Cond.stringRef "PlyHouse$Reader" (126 : Nat) "knots") ∈ lw_tbl := lw_at lw_m2 154 rfl
theorem q448 : (Jvm.Cond.stringRef "PlyHouse$Reader" (128 : Nat) "splits") ∈ lw_tbl := lw_at lw_m2 155 rfl
theorem q449 : (Jvm.Cond.stringRef "PlyHouse$Reader" (130 : Nat) "holes") ∈ lw_tbl := lw_at lw_m2 156 rfl
theorem q450 : (Jvm.Cond.stringRef "PlyHouse$Reader" (132 : Nat) "plugs") ∈ lw_tbl := lw_at lw_m2 157 rfl
theorem q451 : (Jvm.Cond.stringRef "PlyHouse$Reader" (134 : Nat) "run") ∈ lw_tbl := lw_at lw_m2 158 rfl
theorem q452 : (Jvm.Cond.classLink "PlyHouse$Reader" (142 : Nat) "PlyHouse$Number") ∈ lw_all := lw_g (lw_at lw_m2 159 rfl) rfl
theorem q454 : (Jvm.Cond.methodLink "PlyHouse$Reader" (144 : Nat) ({ cls := "PlyHouse$Number", name := "<init>", desc := "(I)V" } : Jvm.MethodName)) ∈ lw_all := lw_g (lw_at lw_m2 161 rfl) rfl
theorem q462 : (Jvm.Cond.classLink "PlyHouse$Reader" (146 : Nat) "PlyHouse$Count") ∈ lw_all := lw_g (lw_at lw_m2 169 rfl) rfl
theorem q464 : (Jvm.Cond.methodLink "PlyHouse$Reader" (148 : Nat) ({ cls := "PlyHouse$Count", name := "<init>", desc := "(I)V" } : Jvm.MethodName)) ∈ lw_all := lw_g (lw_at lw_m2 171 rfl) rfl
theorem q472 : (Jvm.Cond.classLink "PlyHouse$Reader" (123 : Nat) "PlyHouse$Sum") ∈ lw_all := lw_g (lw_at lw_m2 179 rfl) rfl
theorem q474 : (Jvm.Cond.methodLink "PlyHouse$Reader" (125 : Nat) ({ cls := "PlyHouse$Sum", name := "<init>", desc := "(ILPlyHouse$Node;LPlyHouse$Node;)V" } : Jvm.MethodName)) ∈ lw_all := lw_g (lw_at lw_m2 181 rfl) rfl
theorem q503 : (Jvm.Cond.classLink "PlyHouse$Reader" (115 : Nat) "PlyHouse$Compared") ∈ lw_all := lw_g (lw_at lw_m2 210 rfl) rfl
theorem q505 : (Jvm.Cond.methodLink "PlyHouse$Reader" (117 : Nat) ({ cls := "PlyHouse$Compared", name := "<init>", desc := "(ILPlyHouse$Node;LPlyHouse$Node;)V" } : Jvm.MethodName)) ∈ lw_all := lw_g (lw_at lw_m2 212 rfl) rfl
theorem q515 : (Jvm.Cond.stringRef "PlyHouse$Reader" (93 : Nat) "and") ∈ lw_tbl := lw_at lw_m2 222 rfl
theorem q516 : (Jvm.Cond.classLink "PlyHouse$Reader" (85 : Nat) "PlyHouse$Joined") ∈ lw_all := lw_g (lw_at lw_m2 223 rfl) rfl
theorem q518 : (Jvm.Cond.methodLink "PlyHouse$Reader" (87 : Nat) ({ cls := "PlyHouse$Joined", name := "<init>", desc := "(ZLPlyHouse$Node;LPlyHouse$Node;)V" } : Jvm.MethodName)) ∈ lw_all := lw_g (lw_at lw_m2 225 rfl) rfl
theorem q528 : (Jvm.Cond.stringRef "PlyHouse$Reader" (83 : Nat) "or") ∈ lw_tbl := lw_at lw_m2 235 rfl
theorem in_X4 : ∀ w ∈ wsX40, w ∈ lw_all := lw_in wsX40 [137, 139, 141, 143, 145, 147, 149, 151] (by decide +kernel) (by decide +kernel)
