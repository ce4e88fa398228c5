/-! PlyHouse -/
set_option maxRecDepth 100000
def RX0 : String := "PlyHouse"
def TX0 : u_T := fun k => match k with
  | 0 => ("PlyHouse", "net", "[I", true)
  | 1 => ("PlyHouse", "centreRow", "I", false)
  | 2 => ("PlyHouse", "centreColumn", "I", false)
  | 3 => ("PlyHouse", "radius", "I", false)
  | 4 => ("PlyHouse", "grades", "LPlyHouse$Grades;", false)
  | 5 => ("PlyHouse", "faultKind", "I", false)
  | 6 => ("PlyHouse", "faultPlace", "I", false)
  | 7 => ("PlyHouse", "tape", "[B", true)
  | 8 => ("PlyHouse", "taped", "I", false)
  | 9 => ("PlyHouse", "leaf", "[B", true)
  | 10 => ("PlyHouse", "marks", "I", false)
  | 11 => ("PlyHouse", "patches", "I", false)
  | 12 => ("PlyHouse", "cost", "I", false)
  | 13 => ("PlyHouse", "part", "LPlyHouse$Part;", true)
  | 14 => ("PlyHouse", "worths", "[I", true)
  | 15 => ("PlyHouse", "fewest", "[I", true)
  | 16 => ("PlyHouse", "taken", "[I", true)
  | 17 => ("PlyHouse", "holes", "[I", true)
  | 18 => ("PlyHouse", "isClipped", "Z", false)
  | 19 => ("PlyHouse", "thicks", "[I", true)
  | 20 => ("PlyHouse", "offs", "[I", true)
  | 21 => ("PlyHouse", "prices", "[I", true)
  | 22 => ("PlyHouse", "isFair", "[Z", true)
  | 23 => ("PlyHouse", "gThick", "[I", true)
  | 24 => ("PlyHouse", "gMinute", "[I", true)
  | 25 => ("PlyHouse", "glued", "I", false)
  | 26 => ("PlyHouse", "openings", "I", false)
  | 27 => ("PlyHouse", "base", "I", false)
  | 28 => ("PlyHouse", "per", "I", false)
  | 29 => ("PlyHouse", "life", "I", false)
  | 30 => ("PlyHouse", "out", "[I", true)
  | 31 => ("PlyHouse", "loads", "[I", true)
  | 32 => ("PlyHouse", "putIn", "[I", true)
  | 33 => ("PlyHouse", "loadMany", "I", false)
  | _ => ("PlyHouse", "planned", "I", false)
def tyX0 : Nat → FieldType := fun k => match k with
  | 0 => .array .int
  | 1 => .int
  | 2 => .int
  | 3 => .int
  | 4 => .object "PlyHouse$Grades"
  | 5 => .int
  | 6 => .int
  | 7 => .array .byte
  | 8 => .int
  | 9 => .array .byte
  | 10 => .int
  | 11 => .int
  | 12 => .int
  | 13 => .object "PlyHouse$Part"
  | 14 => .array .int
  | 15 => .array .int
  | 16 => .array .int
  | 17 => .array .int
  | 18 => .boolean
  | 19 => .array .int
  | 20 => .array .int
  | 21 => .array .int
  | 22 => .array .boolean
  | 23 => .array .int
  | 24 => .array .int
  | 25 => .int
  | 26 => .int
  | 27 => .int
  | 28 => .int
  | 29 => .int
  | 30 => .array .int
  | 31 => .array .int
  | 32 => .array .int
  | 33 => .int
  | _ => .int
abbrev wsX00 : List Cond := u_ws RX0 TX0 35
set_option maxRecDepth 100000 in
theorem nmX0 : ∀ a, a < 35 → ∀ b, b < 35 → a ≠ b → (TX0 a).2.1 ≠ (TX0 b).2.1 := by decide +kernel
set_option maxRecDepth 100000 in
theorem tyX0_ok : ∀ k, k < 35 → parseFieldDescriptor (TX0 k).2.2.1 = some (tyX0 k) := by decide +kernel
abbrev cX0_net : ByteArray := prog_1_method_1_code
def yX0_net : MethodName := ⟨RX0, "net", "(II)Z"⟩
def dkwX0_net_1 : List UInt8 := [180, 0, 4, 27, 28, 79, 4, 172]
abbrev dktX0_net_1 : List UInt8 := dkwX0_net_1 ++ []
def dkwX0_net_0 : List UInt8 := [27, 155, 0, 19, 27, 16, 24, 162, 0, 13, 28, 155, 0, 9, 28, 18, 3, 161, 0, 5, 3, 172, 42]
abbrev dktX0_net_0 : List UInt8 := dkwX0_net_0 ++ dktX0_net_1
theorem dksX0_net_0 : cX0_net.data.toList.drop 0 = dktX0_net_0 := by decide +kernel
theorem dksX0_net_1 : cX0_net.data.toList.drop 23 = dktX0_net_1 := dk_seg dksX0_net_0 23 rfl rfl
theorem dX0_net_0 : decode cX0_net 0 = .ok (.iload_n 1, 1) := dk_27 (dk_at dksX0_net_0 0 rfl rfl)
theorem dX0_net_1 : decode cX0_net 1 = .ok (.ifCond .lt 19, 3) := dk_155 0 19 (dk_at dksX0_net_0 1 rfl rfl)
theorem dX0_net_4 : decode cX0_net 4 = .ok (.iload_n 1, 1) := dk_27 (dk_at dksX0_net_0 4 rfl rfl)
theorem dX0_net_5 : decode cX0_net 5 = .ok (.bipush 24, 2) := dk_16 24 (dk_at dksX0_net_0 5 rfl rfl)
theorem dX0_net_7 : decode cX0_net 7 = .ok (.if_icmp .ge 13, 3) := dk_162 0 13 (dk_at dksX0_net_0 7 rfl rfl)
theorem dX0_net_10 : decode cX0_net 10 = .ok (.iload_n 2, 1) := dk_28 (dk_at dksX0_net_0 10 rfl rfl)
theorem dX0_net_11 : decode cX0_net 11 = .ok (.ifCond .lt 9, 3) := dk_155 0 9 (dk_at dksX0_net_0 11 rfl rfl)
theorem dX0_net_14 : decode cX0_net 14 = .ok (.iload_n 2, 1) := dk_28 (dk_at dksX0_net_0 14 rfl rfl)
theorem dX0_net_15 : decode cX0_net 15 = .ok (.ldc 3, 2) := dk_18 3 (dk_at dksX0_net_0 15 rfl rfl)
theorem dX0_net_17 : decode cX0_net 17 = .ok (.if_icmp .lt 5, 3) := dk_161 0 5 (dk_at dksX0_net_0 17 rfl rfl)
theorem dX0_net_20 : decode cX0_net 20 = .ok (.iconst 0, 1) := dk_3 (dk_at dksX0_net_0 20 rfl rfl)
theorem dX0_net_21 : decode cX0_net 21 = .ok (.ireturn, 1) := dk_172 (dk_at dksX0_net_0 21 rfl rfl)
theorem dX0_net_22 : decode cX0_net 22 = .ok (.aload_n 0, 1) := dk_42 (dk_at dksX0_net_0 22 rfl rfl)
theorem dX0_net_23 : decode cX0_net 23 = .ok (.getfield 4, 3) := dk_180 0 4 (dk_at dksX0_net_1 0 rfl rfl)
theorem dX0_net_26 : decode cX0_net 26 = .ok (.iload_n 1, 1) := dk_27 (dk_at dksX0_net_1 3 rfl rfl)
theorem dX0_net_27 : decode cX0_net 27 = .ok (.iload_n 2, 1) := dk_28 (dk_at dksX0_net_1 4 rfl rfl)
theorem dX0_net_28 : decode cX0_net 28 = .ok (.iastore, 1) := dk_79 (dk_at dksX0_net_1 5 rfl rfl)
theorem dX0_net_29 : decode cX0_net 29 = .ok (.iconst 1, 1) := dk_4 (dk_at dksX0_net_1 6 rfl rfl)
theorem dX0_net_30 : decode cX0_net 30 = .ok (.ireturn, 1) := dk_172 (dk_at dksX0_net_1 7 rfl rfl)
abbrev cX0_centre : ByteArray := prog_1_method_5_code
def yX0_centre : MethodName := ⟨RX0, "centre", "(I)I"⟩
def dkwX0_centre_2 : List UInt8 := [2, 172]
abbrev dktX0_centre_2 : List UInt8 := dkwX0_centre_2 ++ []
def dkwX0_centre_1 : List UInt8 := [27, 4, 160, 0, 10, 42, 180, 0, 23, 167, 0, 16, 27, 5, 160, 0, 10, 42, 180, 0, 12, 167, 0, 4]
abbrev dktX0_centre_1 : List UInt8 := dkwX0_centre_1 ++ dktX0_centre_2
def dkwX0_centre_0 : List UInt8 := [42, 182, 0, 26, 42, 180, 0, 12, 156, 0, 5, 2, 172, 27, 154, 0, 10, 42, 180, 0, 20, 167, 0, 28]
abbrev dktX0_centre_0 : List UInt8 := dkwX0_centre_0 ++ dktX0_centre_1
theorem dksX0_centre_0 : cX0_centre.data.toList.drop 0 = dktX0_centre_0 := by decide +kernel
theorem dksX0_centre_1 : cX0_centre.data.toList.drop 24 = dktX0_centre_1 := dk_seg dksX0_centre_0 24 rfl rfl
theorem dksX0_centre_2 : cX0_centre.data.toList.drop 48 = dktX0_centre_2 := dk_seg dksX0_centre_1 24 rfl rfl
theorem dX0_centre_0 : decode cX0_centre 0 = .ok (.aload_n 0, 1) := dk_42 (dk_at dksX0_centre_0 0 rfl rfl)
theorem dX0_centre_1 : decode cX0_centre 1 = .ok (.invokevirtual 26, 3) := dk_182 0 26 (dk_at dksX0_centre_0 1 rfl rfl)
theorem dX0_centre_4 : decode cX0_centre 4 = .ok (.aload_n 0, 1) := dk_42 (dk_at dksX0_centre_0 4 rfl rfl)
theorem dX0_centre_5 : decode cX0_centre 5 = .ok (.getfield 12, 3) := dk_180 0 12 (dk_at dksX0_centre_0 5 rfl rfl)
theorem dX0_centre_8 : decode cX0_centre 8 = .ok (.ifCond .ge 5, 3) := dk_156 0 5 (dk_at dksX0_centre_0 8 rfl rfl)
theorem dX0_centre_11 : decode cX0_centre 11 = .ok (.iconst (-1), 1) := dk_2 (dk_at dksX0_centre_0 11 rfl rfl)
theorem dX0_centre_12 : decode cX0_centre 12 = .ok (.ireturn, 1) := dk_172 (dk_at dksX0_centre_0 12 rfl rfl)
theorem dX0_centre_13 : decode cX0_centre 13 = .ok (.iload_n 1, 1) := dk_27 (dk_at dksX0_centre_0 13 rfl rfl)
theorem dX0_centre_14 : decode cX0_centre 14 = .ok (.ifCond .ne 10, 3) := dk_154 0 10 (dk_at dksX0_centre_0 14 rfl rfl)
theorem dX0_centre_17 : decode cX0_centre 17 = .ok (.aload_n 0, 1) := dk_42 (dk_at dksX0_centre_0 17 rfl rfl)
theorem dX0_centre_18 : decode cX0_centre 18 = .ok (.getfield 20, 3) := dk_180 0 20 (dk_at dksX0_centre_0 18 rfl rfl)
theorem dX0_centre_21 : decode cX0_centre 21 = .ok (.goto 28, 3) := dk_167 0 28 (dk_at dksX0_centre_0 21 rfl rfl)
theorem dX0_centre_24 : decode cX0_centre 24 = .ok (.iload_n 1, 1) := dk_27 (dk_at dksX0_centre_1 0 rfl rfl)
theorem dX0_centre_25 : decode cX0_centre 25 = .ok (.iconst 1, 1) := dk_4 (dk_at dksX0_centre_1 1 rfl rfl)
theorem dX0_centre_26 : decode cX0_centre 26 = .ok (.if_icmp .ne 10, 3) := dk_160 0 10 (dk_at dksX0_centre_1 2 rfl rfl)
theorem dX0_centre_29 : decode cX0_centre 29 = .ok (.aload_n 0, 1) := dk_42 (dk_at dksX0_centre_1 5 rfl rfl)
theorem dX0_centre_30 : decode cX0_centre 30 = .ok (.getfield 23, 3) := dk_180 0 23 (dk_at dksX0_centre_1 6 rfl rfl)
theorem dX0_centre_33 : decode cX0_centre 33 = .ok (.goto 16, 3) := dk_167 0 16 (dk_at dksX0_centre_1 9 rfl rfl)
theorem dX0_centre_36 : decode cX0_centre 36 = .ok (.iload_n 1, 1) := dk_27 (dk_at dksX0_centre_1 12 rfl rfl)
theorem dX0_centre_37 : decode cX0_centre 37 = .ok (.iconst 2, 1) := dk_5 (dk_at dksX0_centre_1 13 rfl rfl)
theorem dX0_centre_38 : decode cX0_centre 38 = .ok (.if_icmp .ne 10, 3) := dk_160 0 10 (dk_at dksX0_centre_1 14 rfl rfl)
theorem dX0_centre_41 : decode cX0_centre 41 = .ok (.aload_n 0, 1) := dk_42 (dk_at dksX0_centre_1 17 rfl rfl)
theorem dX0_centre_42 : decode cX0_centre 42 = .ok (.getfield 12, 3) := dk_180 0 12 (dk_at dksX0_centre_1 18 rfl rfl)
theorem dX0_centre_45 : decode cX0_centre 45 = .ok (.goto 4, 3) := dk_167 0 4 (dk_at dksX0_centre_1 21 rfl rfl)
theorem dX0_centre_48 : decode cX0_centre 48 = .ok (.iconst (-1), 1) := dk_2 (dk_at dksX0_centre_2 0 rfl rfl)
theorem dX0_centre_49 : decode cX0_centre 49 = .ok (.ireturn, 1) := dk_172 (dk_at dksX0_centre_2 1 rfl rfl)
abbrev cX0_seekCentre : ByteArray := prog_1_method_4_code
def yX0_seekCentre : MethodName := ⟨RX0, "seekCentre", "()V"⟩
def dkwX0_seekCentre_3 : List UInt8 := [132, 2, 1, 167, 255, 200, 132, 1, 1, 167, 255, 186, 177]
abbrev dktX0_seekCentre_3 : List UInt8 := dkwX0_seekCentre_3 ++ []
def dkwX0_seekCentre_2 : List UInt8 := [89, 180, 0, 12, 4, 96, 181, 0, 12, 42, 27, 181, 0, 20, 42, 28, 181, 0, 23, 167, 255, 212]
abbrev dktX0_seekCentre_2 : List UInt8 := dkwX0_seekCentre_2 ++ dktX0_seekCentre_3
def dkwX0_seekCentre_1 : List UInt8 := [180, 0, 12, 16, 11, 162, 0, 41, 42, 27, 28, 42, 180, 0, 12, 4, 96, 182, 0, 16, 153, 0, 26, 42]
abbrev dktX0_seekCentre_1 : List UInt8 := dkwX0_seekCentre_1 ++ dktX0_seekCentre_2
def dkwX0_seekCentre_0 : List UInt8 := [42, 2, 181, 0, 12, 3, 60, 27, 16, 24, 162, 0, 70, 3, 61, 28, 16, 24, 162, 0, 56, 42]
abbrev dktX0_seekCentre_0 : List UInt8 := dkwX0_seekCentre_0 ++ dktX0_seekCentre_1
theorem dksX0_seekCentre_0 : cX0_seekCentre.data.toList.drop 0 = dktX0_seekCentre_0 := by decide +kernel
theorem dksX0_seekCentre_1 : cX0_seekCentre.data.toList.drop 22 = dktX0_seekCentre_1 := dk_seg dksX0_seekCentre_0 22 rfl rfl
theorem dksX0_seekCentre_2 : cX0_seekCentre.data.toList.drop 46 = dktX0_seekCentre_2 := dk_seg dksX0_seekCentre_1 24 rfl rfl
theorem dksX0_seekCentre_3 : cX0_seekCentre.data.toList.drop 68 = dktX0_seekCentre_3 := dk_seg dksX0_seekCentre_2 22 rfl rfl
theorem dX0_seekCentre_0 : decode cX0_seekCentre 0 = .ok (.aload_n 0, 1) := dk_42 (dk_at dksX0_seekCentre_0 0 rfl rfl)
theorem dX0_seekCentre_1 : decode cX0_seekCentre 1 = .ok (.iconst (-1), 1) := dk_2 (dk_at dksX0_seekCentre_0 1 rfl rfl)
theorem dX0_seekCentre_2 : decode cX0_seekCentre 2 = .ok (.putfield 12, 3) := dk_181 0 12 (dk_at dksX0_seekCentre_0 2 rfl rfl)
theorem dX0_seekCentre_5 : decode cX0_seekCentre 5 = .ok (.iconst 0, 1) := dk_3 (dk_at dksX0_seekCentre_0 5 rfl rfl)
theorem dX0_seekCentre_6 : decode cX0_seekCentre 6 = .ok (.istore_n 1, 1) := dk_60 (dk_at dksX0_seekCentre_0 6 rfl rfl)
theorem dX0_seekCentre_7 : decode cX0_seekCentre 7 = .ok (.iload_n 1, 1) := dk_27 (dk_at dksX0_seekCentre_0 7 rfl rfl)
theorem dX0_seekCentre_8 : decode cX0_seekCentre 8 = .ok (.bipush 24, 2) := dk_16 24 (dk_at dksX0_seekCentre_0 8 rfl rfl)
theorem dX0_seekCentre_10 : decode cX0_seekCentre 10 = .ok (.if_icmp .ge 70, 3) := dk_162 0 70 (dk_at dksX0_seekCentre_0 10 rfl rfl)
theorem dX0_seekCentre_13 : decode cX0_seekCentre 13 = .ok (.iconst 0, 1) := dk_3 (dk_at dksX0_seekCentre_0 13 rfl rfl)
theorem dX0_seekCentre_14 : decode cX0_seekCentre 14 = .ok (.istore_n 2, 1) := dk_61 (dk_at dksX0_seekCentre_0 14 rfl rfl)
theorem dX0_seekCentre_15 : decode cX0_seekCentre 15 = .ok (.iload_n 2, 1) := dk_28 (dk_at dksX0_seekCentre_0 15 rfl rfl)
theorem dX0_seekCentre_16 : decode cX0_seekCentre 16 = .ok (.bipush 24, 2) := dk_16 24 (dk_at dksX0_seekCentre_0 16 rfl rfl)
theorem dX0_seekCentre_18 : decode cX0_seekCentre 18 = .ok (.if_icmp .ge 56, 3) := dk_162 0 56 (dk_at dksX0_seekCentre_0 18 rfl rfl)
theorem dX0_seekCentre_21 : decode cX0_seekCentre 21 = .ok (.aload_n 0, 1) := dk_42 (dk_at dksX0_seekCentre_0 21 rfl rfl)
theorem dX0_seekCentre_22 : decode cX0_seekCentre 22 = .ok (.getfield 12, 3) := dk_180 0 12 (dk_at dksX0_seekCentre_1 0 rfl rfl)
theorem dX0_seekCentre_25 : decode cX0_seekCentre 25 = .ok (.bipush 11, 2) := dk_16 11 (dk_at dksX0_seekCentre_1 3 rfl rfl)
theorem dX0_seekCentre_27 : decode cX0_seekCentre 27 = .ok (.if_icmp .ge 41, 3) := dk_162 0 41 (dk_at dksX0_seekCentre_1 5 rfl rfl)
theorem dX0_seekCentre_30 : decode cX0_seekCentre 30 = .ok (.aload_n 0, 1) := dk_42 (dk_at dksX0_seekCentre_1 8 rfl rfl)
theorem dX0_seekCentre_31 : decode cX0_seekCentre 31 = .ok (.iload_n 1, 1) := dk_27 (dk_at dksX0_seekCentre_1 9 rfl rfl)
theorem dX0_seekCentre_32 : decode cX0_seekCentre 32 = .ok (.iload_n 2, 1) := dk_28 (dk_at dksX0_seekCentre_1 10 rfl rfl)
theorem dX0_seekCentre_33 : decode cX0_seekCentre 33 = .ok (.aload_n 0, 1) := dk_42 (dk_at dksX0_seekCentre_1 11 rfl rfl)
theorem dX0_seekCentre_34 : decode cX0_seekCentre 34 = .ok (.getfield 12, 3) := dk_180 0 12 (dk_at dksX0_seekCentre_1 12 rfl rfl)
theorem dX0_seekCentre_37 : decode cX0_seekCentre 37 = .ok (.iconst 1, 1) := dk_4 (dk_at dksX0_seekCentre_1 15 rfl rfl)
theorem dX0_seekCentre_38 : decode cX0_seekCentre 38 = .ok (.iadd, 1) := dk_96 (dk_at dksX0_seekCentre_1 16 rfl rfl)
theorem dX0_seekCentre_39 : decode cX0_seekCentre 39 = .ok (.invokevirtual 16, 3) := dk_182 0 16 (dk_at dksX0_seekCentre_1 17 rfl rfl)
theorem dX0_seekCentre_42 : decode cX0_seekCentre 42 = .ok (.ifCond .eq 26, 3) := dk_153 0 26 (dk_at dksX0_seekCentre_1 20 rfl rfl)
theorem dX0_seekCentre_45 : decode cX0_seekCentre 45 = .ok (.aload_n 0, 1) := dk_42 (dk_at dksX0_seekCentre_1 23 rfl rfl)
theorem dX0_seekCentre_46 : decode cX0_seekCentre 46 = .ok (.dup, 1) := dk_89 (dk_at dksX0_seekCentre_2 0 rfl rfl)
theorem dX0_seekCentre_47 : decode cX0_seekCentre 47 = .ok (.getfield 12, 3) := dk_180 0 12 (dk_at dksX0_seekCentre_2 1 rfl rfl)
theorem dX0_seekCentre_50 : decode cX0_seekCentre 50 = .ok (.iconst 1, 1) := dk_4 (dk_at dksX0_seekCentre_2 4 rfl rfl)
theorem dX0_seekCentre_51 : decode cX0_seekCentre 51 = .ok (.iadd, 1) := dk_96 (dk_at dksX0_seekCentre_2 5 rfl rfl)
theorem dX0_seekCentre_52 : decode cX0_seekCentre 52 = .ok (.putfield 12, 3) := dk_181 0 12 (dk_at dksX0_seekCentre_2 6 rfl rfl)
theorem dX0_seekCentre_55 : decode cX0_seekCentre 55 = .ok (.aload_n 0, 1) := dk_42 (dk_at dksX0_seekCentre_2 9 rfl rfl)
theorem dX0_seekCentre_56 : decode cX0_seekCentre 56 = .ok (.iload_n 1, 1) := dk_27 (dk_at dksX0_seekCentre_2 10 rfl rfl)
theorem dX0_seekCentre_57 : decode cX0_seekCentre 57 = .ok (.putfield 20, 3) := dk_181 0 20 (dk_at dksX0_seekCentre_2 11 rfl rfl)
theorem dX0_seekCentre_60 : decode cX0_seekCentre 60 = .ok (.aload_n 0, 1) := dk_42 (dk_at dksX0_seekCentre_2 14 rfl rfl)
theorem dX0_seekCentre_61 : decode cX0_seekCentre 61 = .ok (.iload_n 2, 1) := dk_28 (dk_at dksX0_seekCentre_2 15 rfl rfl)
theorem dX0_seekCentre_62 : decode cX0_seekCentre 62 = .ok (.putfield 23, 3) := dk_181 0 23 (dk_at dksX0_seekCentre_2 16 rfl rfl)
theorem dX0_seekCentre_65 : decode cX0_seekCentre 65 = .ok (.goto (-44), 3) := dk_167 255 212 (dk_at dksX0_seekCentre_2 19 rfl rfl)
theorem dX0_seekCentre_68 : decode cX0_seekCentre 68 = .ok (.iinc 2 1, 3) := dk_132 2 1 (dk_at dksX0_seekCentre_3 0 rfl rfl)
theorem dX0_seekCentre_71 : decode cX0_seekCentre 71 = .ok (.goto (-56), 3) := dk_167 255 200 (dk_at dksX0_seekCentre_3 3 rfl rfl)
theorem dX0_seekCentre_74 : decode cX0_seekCentre 74 = .ok (.iinc 1 1, 3) := dk_132 1 1 (dk_at dksX0_seekCentre_3 6 rfl rfl)
theorem dX0_seekCentre_77 : decode cX0_seekCentre 77 = .ok (.goto (-70), 3) := dk_167 255 186 (dk_at dksX0_seekCentre_3 9 rfl rfl)
theorem dX0_seekCentre_80 : decode cX0_seekCentre 80 = .ok (.return_, 1) := dk_177 (dk_at dksX0_seekCentre_3 12 rfl rfl)
abbrev cX0_fits : ByteArray := prog_1_method_3_code
def yX0_fits : MethodName := ⟨RX0, "fits", "(III)Z"⟩
def dkwX0_fits_2 : List UInt8 := [182, 0, 8, 154, 0, 5, 3, 172, 132, 5, 1, 167, 255, 213, 132, 4, 1, 167, 255, 197, 4, 172]
abbrev dktX0_fits_2 : List UInt8 := dkwX0_fits_2 ++ []
def dkwX0_fits_1 : List UInt8 := [104, 21, 5, 21, 5, 104, 96, 29, 29, 104, 163, 0, 20, 42, 27, 21, 4, 96, 28, 21, 5, 96]
abbrev dktX0_fits_1 : List UInt8 := dkwX0_fits_1 ++ dktX0_fits_2
def dkwX0_fits_0 : List UInt8 := [29, 116, 54, 4, 21, 4, 29, 163, 0, 59, 29, 116, 54, 5, 21, 5, 29, 163, 0, 43, 21, 4, 21, 4]
abbrev dktX0_fits_0 : List UInt8 := dkwX0_fits_0 ++ dktX0_fits_1
theorem dksX0_fits_0 : cX0_fits.data.toList.drop 0 = dktX0_fits_0 := by decide +kernel
theorem dksX0_fits_1 : cX0_fits.data.toList.drop 24 = dktX0_fits_1 := dk_seg dksX0_fits_0 24 rfl rfl
theorem dksX0_fits_2 : cX0_fits.data.toList.drop 46 = dktX0_fits_2 := dk_seg dksX0_fits_1 22 rfl rfl
theorem dX0_fits_0 : decode cX0_fits 0 = .ok (.iload_n 3, 1) := dk_29 (dk_at dksX0_fits_0 0 rfl rfl)
theorem dX0_fits_1 : decode cX0_fits 1 = .ok (.ineg, 1) := dk_116 (dk_at dksX0_fits_0 1 rfl rfl)
theorem dX0_fits_2 : decode cX0_fits 2 = .ok (.istore 4, 2) := dk_54 4 (dk_at dksX0_fits_0 2 rfl rfl)
theorem dX0_fits_4 : decode cX0_fits 4 = .ok (.iload 4, 2) := dk_21 4 (dk_at dksX0_fits_0 4 rfl rfl)
theorem dX0_fits_6 : decode cX0_fits 6 = .ok (.iload_n 3, 1) := dk_29 (dk_at dksX0_fits_0 6 rfl rfl)
theorem dX0_fits_7 : decode cX0_fits 7 = .ok (.if_icmp .gt 59, 3) := dk_163 0 59 (dk_at dksX0_fits_0 7 rfl rfl)
theorem dX0_fits_10 : decode cX0_fits 10 = .ok (.iload_n 3, 1) := dk_29 (dk_at dksX0_fits_0 10 rfl rfl)
theorem dX0_fits_11 : decode cX0_fits 11 = .ok (.ineg, 1) := dk_116 (dk_at dksX0_fits_0 11 rfl rfl)
theorem dX0_fits_12 : decode cX0_fits 12 = .ok (.istore 5, 2) := dk_54 5 (dk_at dksX0_fits_0 12 rfl rfl)
theorem dX0_fits_14 : decode cX0_fits 14 = .ok (.iload 5, 2) := dk_21 5 (dk_at dksX0_fits_0 14 rfl rfl)
theorem dX0_fits_16 : decode cX0_fits 16 = .ok (.iload_n 3, 1) := dk_29 (dk_at dksX0_fits_0 16 rfl rfl)
theorem dX0_fits_17 : decode cX0_fits 17 = .ok (.if_icmp .gt 43, 3) := dk_163 0 43 (dk_at dksX0_fits_0 17 rfl rfl)
theorem dX0_fits_20 : decode cX0_fits 20 = .ok (.iload 4, 2) := dk_21 4 (dk_at dksX0_fits_0 20 rfl rfl)
theorem dX0_fits_22 : decode cX0_fits 22 = .ok (.iload 4, 2) := dk_21 4 (dk_at dksX0_fits_0 22 rfl rfl)
theorem dX0_fits_24 : decode cX0_fits 24 = .ok (.imul, 1) := dk_104 (dk_at dksX0_fits_1 0 rfl rfl)
theorem dX0_fits_25 : decode cX0_fits 25 = .ok (.iload 5, 2) := dk_21 5 (dk_at dksX0_fits_1 1 rfl rfl)
theorem dX0_fits_27 : decode cX0_fits 27 = .ok (.iload 5, 2) := dk_21 5 (dk_at dksX0_fits_1 3 rfl rfl)
theorem dX0_fits_29 : decode cX0_fits 29 = .ok (.imul, 1) := dk_104 (dk_at dksX0_fits_1 5 rfl rfl)
theorem dX0_fits_30 : decode cX0_fits 30 = .ok (.iadd, 1) := dk_96 (dk_at dksX0_fits_1 6 rfl rfl)
theorem dX0_fits_31 : decode cX0_fits 31 = .ok (.iload_n 3, 1) := dk_29 (dk_at dksX0_fits_1 7 rfl rfl)
theorem dX0_fits_32 : decode cX0_fits 32 = .ok (.iload_n 3, 1) := dk_29 (dk_at dksX0_fits_1 8 rfl rfl)
theorem dX0_fits_33 : decode cX0_fits 33 = .ok (.imul, 1) := dk_104 (dk_at dksX0_fits_1 9 rfl rfl)
theorem dX0_fits_34 : decode cX0_fits 34 = .ok (.if_icmp .gt 20, 3) := dk_163 0 20 (dk_at dksX0_fits_1 10 rfl rfl)
theorem dX0_fits_37 : decode cX0_fits 37 = .ok (.aload_n 0, 1) := dk_42 (dk_at dksX0_fits_1 13 rfl rfl)
theorem dX0_fits_38 : decode cX0_fits 38 = .ok (.iload_n 1, 1) := dk_27 (dk_at dksX0_fits_1 14 rfl rfl)
theorem dX0_fits_39 : decode cX0_fits 39 = .ok (.iload 4, 2) := dk_21 4 (dk_at dksX0_fits_1 15 rfl rfl)
theorem dX0_fits_41 : decode cX0_fits 41 = .ok (.iadd, 1) := dk_96 (dk_at dksX0_fits_1 17 rfl rfl)
theorem dX0_fits_42 : decode cX0_fits 42 = .ok (.iload_n 2, 1) := dk_28 (dk_at dksX0_fits_1 18 rfl rfl)
theorem dX0_fits_43 : decode cX0_fits 43 = .ok (.iload 5, 2) := dk_21 5 (dk_at dksX0_fits_1 19 rfl rfl)
theorem dX0_fits_45 : decode cX0_fits 45 = .ok (.iadd, 1) := dk_96 (dk_at dksX0_fits_1 21 rfl rfl)
theorem dX0_fits_46 : decode cX0_fits 46 = .ok (.invokevirtual 8, 3) := dk_182 0 8 (dk_at dksX0_fits_2 0 rfl rfl)
theorem dX0_fits_49 : decode cX0_fits 49 = .ok (.ifCond .ne 5, 3) := dk_154 0 5 (dk_at dksX0_fits_2 3 rfl rfl)
theorem dX0_fits_52 : decode cX0_fits 52 = .ok (.iconst 0, 1) := dk_3 (dk_at dksX0_fits_2 6 rfl rfl)
theorem dX0_fits_53 : decode cX0_fits 53 = .ok (.ireturn, 1) := dk_172 (dk_at dksX0_fits_2 7 rfl rfl)
theorem dX0_fits_54 : decode cX0_fits 54 = .ok (.iinc 5 1, 3) := dk_132 5 1 (dk_at dksX0_fits_2 8 rfl rfl)
theorem dX0_fits_57 : decode cX0_fits 57 = .ok (.goto (-43), 3) := dk_167 255 213 (dk_at dksX0_fits_2 11 rfl rfl)
theorem dX0_fits_60 : decode cX0_fits 60 = .ok (.iinc 4 1, 3) := dk_132 4 1 (dk_at dksX0_fits_2 14 rfl rfl)
theorem dX0_fits_63 : decode cX0_fits 63 = .ok (.goto (-59), 3) := dk_167 255 197 (dk_at dksX0_fits_2 17 rfl rfl)
theorem dX0_fits_66 : decode cX0_fits 66 = .ok (.iconst 1, 1) := dk_4 (dk_at dksX0_fits_2 20 rfl rfl)
theorem dX0_fits_67 : decode cX0_fits 67 = .ok (.ireturn, 1) := dk_172 (dk_at dksX0_fits_2 21 rfl rfl)
abbrev cX0_isIn : ByteArray := prog_1_method_2_code
def yX0_isIn : MethodName := ⟨RX0, "isIn", "(II)Z"⟩
def dkwX0_isIn_1 : List UInt8 := [27, 46, 28, 122, 4, 126, 4, 160, 0, 7, 4, 167, 0, 4, 3, 172]
abbrev dktX0_isIn_1 : List UInt8 := dkwX0_isIn_1 ++ []
def dkwX0_isIn_0 : List UInt8 := [27, 155, 0, 37, 27, 16, 24, 162, 0, 31, 28, 155, 0, 27, 28, 16, 24, 162, 0, 21, 42, 180, 0, 4]
abbrev dktX0_isIn_0 : List UInt8 := dkwX0_isIn_0 ++ dktX0_isIn_1
theorem dksX0_isIn_0 : cX0_isIn.data.toList.drop 0 = dktX0_isIn_0 := by decide +kernel
theorem dksX0_isIn_1 : cX0_isIn.data.toList.drop 24 = dktX0_isIn_1 := dk_seg dksX0_isIn_0 24 rfl rfl
theorem dX0_isIn_0 : decode cX0_isIn 0 = .ok (.iload_n 1, 1) := dk_27 (dk_at dksX0_isIn_0 0 rfl rfl)
theorem dX0_isIn_1 : decode cX0_isIn 1 = .ok (.ifCond .lt 37, 3) := dk_155 0 37 (dk_at dksX0_isIn_0 1 rfl rfl)
theorem dX0_isIn_4 : decode cX0_isIn 4 = .ok (.iload_n 1, 1) := dk_27 (dk_at dksX0_isIn_0 4 rfl rfl)
theorem dX0_isIn_5 : decode cX0_isIn 5 = .ok (.bipush 24, 2) := dk_16 24 (dk_at dksX0_isIn_0 5 rfl rfl)
theorem dX0_isIn_7 : decode cX0_isIn 7 = .ok (.if_icmp .ge 31, 3) := dk_162 0 31 (dk_at dksX0_isIn_0 7 rfl rfl)
theorem dX0_isIn_10 : decode cX0_isIn 10 = .ok (.iload_n 2, 1) := dk_28 (dk_at dksX0_isIn_0 10 rfl rfl)
theorem dX0_isIn_11 : decode cX0_isIn 11 = .ok (.ifCond .lt 27, 3) := dk_155 0 27 (dk_at dksX0_isIn_0 11 rfl rfl)
theorem dX0_isIn_14 : decode cX0_isIn 14 = .ok (.iload_n 2, 1) := dk_28 (dk_at dksX0_isIn_0 14 rfl rfl)
theorem dX0_isIn_15 : decode cX0_isIn 15 = .ok (.bipush 24, 2) := dk_16 24 (dk_at dksX0_isIn_0 15 rfl rfl)
theorem dX0_isIn_17 : decode cX0_isIn 17 = .ok (.if_icmp .ge 21, 3) := dk_162 0 21 (dk_at dksX0_isIn_0 17 rfl rfl)
theorem dX0_isIn_20 : decode cX0_isIn 20 = .ok (.aload_n 0, 1) := dk_42 (dk_at dksX0_isIn_0 20 rfl rfl)
theorem dX0_isIn_21 : decode cX0_isIn 21 = .ok (.getfield 4, 3) := dk_180 0 4 (dk_at dksX0_isIn_0 21 rfl rfl)
theorem dX0_isIn_24 : decode cX0_isIn 24 = .ok (.iload_n 1, 1) := dk_27 (dk_at dksX0_isIn_1 0 rfl rfl)
theorem dX0_isIn_25 : decode cX0_isIn 25 = .ok (.iaload, 1) := dk_46 (dk_at dksX0_isIn_1 1 rfl rfl)
theorem dX0_isIn_26 : decode cX0_isIn 26 = .ok (.iload_n 2, 1) := dk_28 (dk_at dksX0_isIn_1 2 rfl rfl)
theorem dX0_isIn_27 : decode cX0_isIn 27 = .ok (.ishr, 1) := dk_122 (dk_at dksX0_isIn_1 3 rfl rfl)
theorem dX0_isIn_28 : decode cX0_isIn 28 = .ok (.iconst 1, 1) := dk_4 (dk_at dksX0_isIn_1 4 rfl rfl)
theorem dX0_isIn_29 : decode cX0_isIn 29 = .ok (.iand, 1) := dk_126 (dk_at dksX0_isIn_1 5 rfl rfl)
theorem dX0_isIn_30 : decode cX0_isIn 30 = .ok (.iconst 1, 1) := dk_4 (dk_at dksX0_isIn_1 6 rfl rfl)
theorem dX0_isIn_31 : decode cX0_isIn 31 = .ok (.if_icmp .ne 7, 3) := dk_160 0 7 (dk_at dksX0_isIn_1 7 rfl rfl)
theorem dX0_isIn_34 : decode cX0_isIn 34 = .ok (.iconst 1, 1) := dk_4 (dk_at dksX0_isIn_1 10 rfl rfl)
theorem dX0_isIn_35 : decode cX0_isIn 35 = .ok (.goto 4, 3) := dk_167 0 4 (dk_at dksX0_isIn_1 11 rfl rfl)
theorem dX0_isIn_38 : decode cX0_isIn 38 = .ok (.iconst 0, 1) := dk_3 (dk_at dksX0_isIn_1 14 rfl rfl)
theorem dX0_isIn_39 : decode cX0_isIn 39 = .ok (.ireturn, 1) := dk_172 (dk_at dksX0_isIn_1 15 rfl rfl)
abbrev cX0_full : ByteArray := prog_1_method_6_code
def yX0_full : MethodName := ⟨RX0, "full", "(II)I"⟩
def dkwX0_full_2 : List UInt8 := [161, 0, 7, 3, 167, 0, 18, 29, 29, 104, 27, 27, 104, 100, 16, 22, 104, 16, 7, 28, 104, 108, 172]
abbrev dktX0_full_2 : List UInt8 := dkwX0_full_2 ++ []
def dkwX0_full_1 : List UInt8 := [4, 161, 0, 9, 28, 16, 50, 164, 0, 5, 2, 172, 16, 10, 42, 180, 0, 12, 104, 8, 96, 62, 27, 29]
abbrev dktX0_full_1 : List UInt8 := dkwX0_full_1 ++ dktX0_full_2
def dkwX0_full_0 : List UInt8 := [42, 182, 0, 26, 42, 180, 0, 12, 155, 0, 26, 27, 4, 161, 0, 21, 27, 17, 0, 200, 163, 0, 14, 28]
abbrev dktX0_full_0 : List UInt8 := dkwX0_full_0 ++ dktX0_full_1
theorem dksX0_full_0 : cX0_full.data.toList.drop 0 = dktX0_full_0 := by decide +kernel
theorem dksX0_full_1 : cX0_full.data.toList.drop 24 = dktX0_full_1 := dk_seg dksX0_full_0 24 rfl rfl
theorem dksX0_full_2 : cX0_full.data.toList.drop 48 = dktX0_full_2 := dk_seg dksX0_full_1 24 rfl rfl
theorem dX0_full_0 : decode cX0_full 0 = .ok (.aload_n 0, 1) := dk_42 (dk_at dksX0_full_0 0 rfl rfl)
theorem dX0_full_1 : decode cX0_full 1 = .ok (.invokevirtual 26, 3) := dk_182 0 26 (dk_at dksX0_full_0 1 rfl rfl)
theorem dX0_full_4 : decode cX0_full 4 = .ok (.aload_n 0, 1) := dk_42 (dk_at dksX0_full_0 4 rfl rfl)
theorem dX0_full_5 : decode cX0_full 5 = .ok (.getfield 12, 3) := dk_180 0 12 (dk_at dksX0_full_0 5 rfl rfl)
theorem dX0_full_8 : decode cX0_full 8 = .ok (.ifCond .lt 26, 3) := dk_155 0 26 (dk_at dksX0_full_0 8 rfl rfl)
theorem dX0_full_11 : decode cX0_full 11 = .ok (.iload_n 1, 1) := dk_27 (dk_at dksX0_full_0 11 rfl rfl)
theorem dX0_full_12 : decode cX0_full 12 = .ok (.iconst 1, 1) := dk_4 (dk_at dksX0_full_0 12 rfl rfl)
theorem dX0_full_13 : decode cX0_full 13 = .ok (.if_icmp .lt 21, 3) := dk_161 0 21 (dk_at dksX0_full_0 13 rfl rfl)
theorem dX0_full_16 : decode cX0_full 16 = .ok (.iload_n 1, 1) := dk_27 (dk_at dksX0_full_0 16 rfl rfl)
theorem dX0_full_17 : decode cX0_full 17 = .ok (.sipush 200, 3) := dk_17 0 200 (dk_at dksX0_full_0 17 rfl rfl)
theorem dX0_full_20 : decode cX0_full 20 = .ok (.if_icmp .gt 14, 3) := dk_163 0 14 (dk_at dksX0_full_0 20 rfl rfl)
theorem dX0_full_23 : decode cX0_full 23 = .ok (.iload_n 2, 1) := dk_28 (dk_at dksX0_full_0 23 rfl rfl)
theorem dX0_full_24 : decode cX0_full 24 = .ok (.iconst 1, 1) := dk_4 (dk_at dksX0_full_1 0 rfl rfl)
theorem dX0_full_25 : decode cX0_full 25 = .ok (.if_icmp .lt 9, 3) := dk_161 0 9 (dk_at dksX0_full_1 1 rfl rfl)
theorem dX0_full_28 : decode cX0_full 28 = .ok (.iload_n 2, 1) := dk_28 (dk_at dksX0_full_1 4 rfl rfl)
theorem dX0_full_29 : decode cX0_full 29 = .ok (.bipush 50, 2) := dk_16 50 (dk_at dksX0_full_1 5 rfl rfl)
theorem dX0_full_31 : decode cX0_full 31 = .ok (.if_icmp .le 5, 3) := dk_164 0 5 (dk_at dksX0_full_1 7 rfl rfl)
theorem dX0_full_34 : decode cX0_full 34 = .ok (.iconst (-1), 1) := dk_2 (dk_at dksX0_full_1 10 rfl rfl)
theorem dX0_full_35 : decode cX0_full 35 = .ok (.ireturn, 1) := dk_172 (dk_at dksX0_full_1 11 rfl rfl)
theorem dX0_full_36 : decode cX0_full 36 = .ok (.bipush 10, 2) := dk_16 10 (dk_at dksX0_full_1 12 rfl rfl)
theorem dX0_full_38 : decode cX0_full 38 = .ok (.aload_n 0, 1) := dk_42 (dk_at dksX0_full_1 14 rfl rfl)
theorem dX0_full_39 : decode cX0_full 39 = .ok (.getfield 12, 3) := dk_180 0 12 (dk_at dksX0_full_1 15 rfl rfl)
theorem dX0_full_42 : decode cX0_full 42 = .ok (.imul, 1) := dk_104 (dk_at dksX0_full_1 18 rfl rfl)
theorem dX0_full_43 : decode cX0_full 43 = .ok (.iconst 5, 1) := dk_8 (dk_at dksX0_full_1 19 rfl rfl)
theorem dX0_full_44 : decode cX0_full 44 = .ok (.iadd, 1) := dk_96 (dk_at dksX0_full_1 20 rfl rfl)
theorem dX0_full_45 : decode cX0_full 45 = .ok (.istore_n 3, 1) := dk_62 (dk_at dksX0_full_1 21 rfl rfl)
theorem dX0_full_46 : decode cX0_full 46 = .ok (.iload_n 1, 1) := dk_27 (dk_at dksX0_full_1 22 rfl rfl)
theorem dX0_full_47 : decode cX0_full 47 = .ok (.iload_n 3, 1) := dk_29 (dk_at dksX0_full_1 23 rfl rfl)
theorem dX0_full_48 : decode cX0_full 48 = .ok (.if_icmp .lt 7, 3) := dk_161 0 7 (dk_at dksX0_full_2 0 rfl rfl)
theorem dX0_full_51 : decode cX0_full 51 = .ok (.iconst 0, 1) := dk_3 (dk_at dksX0_full_2 3 rfl rfl)
theorem dX0_full_52 : decode cX0_full 52 = .ok (.goto 18, 3) := dk_167 0 18 (dk_at dksX0_full_2 4 rfl rfl)
theorem dX0_full_55 : decode cX0_full 55 = .ok (.iload_n 3, 1) := dk_29 (dk_at dksX0_full_2 7 rfl rfl)
theorem dX0_full_56 : decode cX0_full 56 = .ok (.iload_n 3, 1) := dk_29 (dk_at dksX0_full_2 8 rfl rfl)
theorem dX0_full_57 : decode cX0_full 57 = .ok (.imul, 1) := dk_104 (dk_at dksX0_full_2 9 rfl rfl)
theorem dX0_full_58 : decode cX0_full 58 = .ok (.iload_n 1, 1) := dk_27 (dk_at dksX0_full_2 10 rfl rfl)
theorem dX0_full_59 : decode cX0_full 59 = .ok (.iload_n 1, 1) := dk_27 (dk_at dksX0_full_2 11 rfl rfl)
theorem dX0_full_60 : decode cX0_full 60 = .ok (.imul, 1) := dk_104 (dk_at dksX0_full_2 12 rfl rfl)
theorem dX0_full_61 : decode cX0_full 61 = .ok (.isub, 1) := dk_100 (dk_at dksX0_full_2 13 rfl rfl)
theorem dX0_full_62 : decode cX0_full 62 = .ok (.bipush 22, 2) := dk_16 22 (dk_at dksX0_full_2 14 rfl rfl)
theorem dX0_full_64 : decode cX0_full 64 = .ok (.imul, 1) := dk_104 (dk_at dksX0_full_2 16 rfl rfl)
theorem dX0_full_65 : decode cX0_full 65 = .ok (.bipush 7, 2) := dk_16 7 (dk_at dksX0_full_2 17 rfl rfl)
theorem dX0_full_67 : decode cX0_full 67 = .ok (.iload_n 2, 1) := dk_28 (dk_at dksX0_full_2 19 rfl rfl)
theorem dX0_full_68 : decode cX0_full 68 = .ok (.imul, 1) := dk_104 (dk_at dksX0_full_2 20 rfl rfl)
theorem dX0_full_69 : decode cX0_full 69 = .ok (.idiv, 1) := dk_108 (dk_at dksX0_full_2 21 rfl rfl)
theorem dX0_full_70 : decode cX0_full 70 = .ok (.ireturn, 1) := dk_172 (dk_at dksX0_full_2 22 rfl rfl)
abbrev cX0_feed : ByteArray := prog_1_method_7_code
def yX0_feed : MethodName := ⟨RX0, "feed", "(IIIII)I"⟩
def dkwX0_feed_2 : List UInt8 := [172]
abbrev dktX0_feed_2 : List UInt8 := dkwX0_feed_2 ++ []
def dkwX0_feed_1 : List UInt8 := [182, 0, 33, 42, 29, 182, 0, 33, 42, 21, 4, 182, 0, 33, 42, 21, 5, 182, 0, 33, 42, 180, 0, 30]
abbrev dktX0_feed_1 : List UInt8 := dkwX0_feed_1 ++ dktX0_feed_2
def dkwX0_feed_0 : List UInt8 := [42, 180, 0, 30, 16, 20, 96, 17, 2, 88, 164, 0, 5, 2, 172, 42, 27, 182, 0, 33, 42, 28]
abbrev dktX0_feed_0 : List UInt8 := dkwX0_feed_0 ++ dktX0_feed_1
theorem dksX0_feed_0 : cX0_feed.data.toList.drop 0 = dktX0_feed_0 := by decide +kernel
theorem dksX0_feed_1 : cX0_feed.data.toList.drop 22 = dktX0_feed_1 := dk_seg dksX0_feed_0 22 rfl rfl
theorem dksX0_feed_2 : cX0_feed.data.toList.drop 46 = dktX0_feed_2 := dk_seg dksX0_feed_1 24 rfl rfl
theorem dX0_feed_0 : decode cX0_feed 0 = .ok (.aload_n 0, 1) := dk_42 (dk_at dksX0_feed_0 0 rfl rfl)
theorem dX0_feed_1 : decode cX0_feed 1 = .ok (.getfield 30, 3) := dk_180 0 30 (dk_at dksX0_feed_0 1 rfl rfl)
theorem dX0_feed_4 : decode cX0_feed 4 = .ok (.bipush 20, 2) := dk_16 20 (dk_at dksX0_feed_0 4 rfl rfl)
theorem dX0_feed_6 : decode cX0_feed 6 = .ok (.iadd, 1) := dk_96 (dk_at dksX0_feed_0 6 rfl rfl)
theorem dX0_feed_7 : decode cX0_feed 7 = .ok (.sipush 600, 3) := dk_17 2 88 (dk_at dksX0_feed_0 7 rfl rfl)
theorem dX0_feed_10 : decode cX0_feed 10 = .ok (.if_icmp .le 5, 3) := dk_164 0 5 (dk_at dksX0_feed_0 10 rfl rfl)
theorem dX0_feed_13 : decode cX0_feed 13 = .ok (.iconst (-1), 1) := dk_2 (dk_at dksX0_feed_0 13 rfl rfl)
theorem dX0_feed_14 : decode cX0_feed 14 = .ok (.ireturn, 1) := dk_172 (dk_at dksX0_feed_0 14 rfl rfl)
theorem dX0_feed_15 : decode cX0_feed 15 = .ok (.aload_n 0, 1) := dk_42 (dk_at dksX0_feed_0 15 rfl rfl)
theorem dX0_feed_16 : decode cX0_feed 16 = .ok (.iload_n 1, 1) := dk_27 (dk_at dksX0_feed_0 16 rfl rfl)
theorem dX0_feed_17 : decode cX0_feed 17 = .ok (.invokevirtual 33, 3) := dk_182 0 33 (dk_at dksX0_feed_0 17 rfl rfl)
theorem dX0_feed_20 : decode cX0_feed 20 = .ok (.aload_n 0, 1) := dk_42 (dk_at dksX0_feed_0 20 rfl rfl)
theorem dX0_feed_21 : decode cX0_feed 21 = .ok (.iload_n 2, 1) := dk_28 (dk_at dksX0_feed_0 21 rfl rfl)
theorem dX0_feed_22 : decode cX0_feed 22 = .ok (.invokevirtual 33, 3) := dk_182 0 33 (dk_at dksX0_feed_1 0 rfl rfl)
theorem dX0_feed_25 : decode cX0_feed 25 = .ok (.aload_n 0, 1) := dk_42 (dk_at dksX0_feed_1 3 rfl rfl)
theorem dX0_feed_26 : decode cX0_feed 26 = .ok (.iload_n 3, 1) := dk_29 (dk_at dksX0_feed_1 4 rfl rfl)
theorem dX0_feed_27 : decode cX0_feed 27 = .ok (.invokevirtual 33, 3) := dk_182 0 33 (dk_at dksX0_feed_1 5 rfl rfl)
theorem dX0_feed_30 : decode cX0_feed 30 = .ok (.aload_n 0, 1) := dk_42 (dk_at dksX0_feed_1 8 rfl rfl)
theorem dX0_feed_31 : decode cX0_feed 31 = .ok (.iload 4, 2) := dk_21 4 (dk_at dksX0_feed_1 9 rfl rfl)
theorem dX0_feed_33 : decode cX0_feed 33 = .ok (.invokevirtual 33, 3) := dk_182 0 33 (dk_at dksX0_feed_1 11 rfl rfl)
theorem dX0_feed_36 : decode cX0_feed 36 = .ok (.aload_n 0, 1) := dk_42 (dk_at dksX0_feed_1 14 rfl rfl)
theorem dX0_feed_37 : decode cX0_feed 37 = .ok (.iload 5, 2) := dk_21 5 (dk_at dksX0_feed_1 15 rfl rfl)
theorem dX0_feed_39 : decode cX0_feed 39 = .ok (.invokevirtual 33, 3) := dk_182 0 33 (dk_at dksX0_feed_1 17 rfl rfl)
theorem dX0_feed_42 : decode cX0_feed 42 = .ok (.aload_n 0, 1) := dk_42 (dk_at dksX0_feed_1 20 rfl rfl)
theorem dX0_feed_43 : decode cX0_feed 43 = .ok (.getfield 30, 3) := dk_180 0 30 (dk_at dksX0_feed_1 21 rfl rfl)
theorem dX0_feed_46 : decode cX0_feed 46 = .ok (.ireturn, 1) := dk_172 (dk_at dksX0_feed_2 0 rfl rfl)
abbrev cX0_bytes : ByteArray := prog_1_method_8_code
def yX0_bytes : MethodName := ⟨RX0, "bytes", "(I)V"⟩
def dkwX0_bytes_1 : List UInt8 := [180, 0, 30, 4, 96, 181, 0, 30, 132, 2, 248, 167, 255, 226, 177]
abbrev dktX0_bytes_1 : List UInt8 := dkwX0_bytes_1 ++ []
def dkwX0_bytes_0 : List UInt8 := [16, 24, 61, 28, 155, 0, 32, 42, 180, 0, 37, 42, 180, 0, 30, 27, 28, 122, 145, 84, 42, 89]
abbrev dktX0_bytes_0 : List UInt8 := dkwX0_bytes_0 ++ dktX0_bytes_1
theorem dksX0_bytes_0 : cX0_bytes.data.toList.drop 0 = dktX0_bytes_0 := by decide +kernel
theorem dksX0_bytes_1 : cX0_bytes.data.toList.drop 22 = dktX0_bytes_1 := dk_seg dksX0_bytes_0 22 rfl rfl
theorem dX0_bytes_0 : decode cX0_bytes 0 = .ok (.bipush 24, 2) := dk_16 24 (dk_at dksX0_bytes_0 0 rfl rfl)
theorem dX0_bytes_2 : decode cX0_bytes 2 = .ok (.istore_n 2, 1) := dk_61 (dk_at dksX0_bytes_0 2 rfl rfl)
theorem dX0_bytes_3 : decode cX0_bytes 3 = .ok (.iload_n 2, 1) := dk_28 (dk_at dksX0_bytes_0 3 rfl rfl)
theorem dX0_bytes_4 : decode cX0_bytes 4 = .ok (.ifCond .lt 32, 3) := dk_155 0 32 (dk_at dksX0_bytes_0 4 rfl rfl)
theorem dX0_bytes_7 : decode cX0_bytes 7 = .ok (.aload_n 0, 1) := dk_42 (dk_at dksX0_bytes_0 7 rfl rfl)
theorem dX0_bytes_8 : decode cX0_bytes 8 = .ok (.getfield 37, 3) := dk_180 0 37 (dk_at dksX0_bytes_0 8 rfl rfl)
theorem dX0_bytes_11 : decode cX0_bytes 11 = .ok (.aload_n 0, 1) := dk_42 (dk_at dksX0_bytes_0 11 rfl rfl)
theorem dX0_bytes_12 : decode cX0_bytes 12 = .ok (.getfield 30, 3) := dk_180 0 30 (dk_at dksX0_bytes_0 12 rfl rfl)
theorem dX0_bytes_15 : decode cX0_bytes 15 = .ok (.iload_n 1, 1) := dk_27 (dk_at dksX0_bytes_0 15 rfl rfl)
theorem dX0_bytes_16 : decode cX0_bytes 16 = .ok (.iload_n 2, 1) := dk_28 (dk_at dksX0_bytes_0 16 rfl rfl)
theorem dX0_bytes_17 : decode cX0_bytes 17 = .ok (.ishr, 1) := dk_122 (dk_at dksX0_bytes_0 17 rfl rfl)
theorem dX0_bytes_18 : decode cX0_bytes 18 = .ok (.i2b, 1) := dk_145 (dk_at dksX0_bytes_0 18 rfl rfl)
theorem dX0_bytes_19 : decode cX0_bytes 19 = .ok (.bastore, 1) := dk_84 (dk_at dksX0_bytes_0 19 rfl rfl)
theorem dX0_bytes_20 : decode cX0_bytes 20 = .ok (.aload_n 0, 1) := dk_42 (dk_at dksX0_bytes_0 20 rfl rfl)
theorem dX0_bytes_21 : decode cX0_bytes 21 = .ok (.dup, 1) := dk_89 (dk_at dksX0_bytes_0 21 rfl rfl)
theorem dX0_bytes_22 : decode cX0_bytes 22 = .ok (.getfield 30, 3) := dk_180 0 30 (dk_at dksX0_bytes_1 0 rfl rfl)
theorem dX0_bytes_25 : decode cX0_bytes 25 = .ok (.iconst 1, 1) := dk_4 (dk_at dksX0_bytes_1 3 rfl rfl)
theorem dX0_bytes_26 : decode cX0_bytes 26 = .ok (.iadd, 1) := dk_96 (dk_at dksX0_bytes_1 4 rfl rfl)
theorem dX0_bytes_27 : decode cX0_bytes 27 = .ok (.putfield 30, 3) := dk_181 0 30 (dk_at dksX0_bytes_1 5 rfl rfl)
theorem dX0_bytes_30 : decode cX0_bytes 30 = .ok (.iinc 2 (-8), 3) := dk_132 2 248 (dk_at dksX0_bytes_1 8 rfl rfl)
theorem dX0_bytes_33 : decode cX0_bytes 33 = .ok (.goto (-30), 3) := dk_167 255 226 (dk_at dksX0_bytes_1 11 rfl rfl)
theorem dX0_bytes_36 : decode cX0_bytes 36 = .ok (.return_, 1) := dk_177 (dk_at dksX0_bytes_1 14 rfl rfl)
abbrev cX0_end : ByteArray := prog_1_method_9_code
def yX0_end : MethodName := ⟨RX0, "end", "(I)I"⟩
def dkwX0_end_0 : List UInt8 := [27, 155, 0, 11, 27, 42, 180, 0, 30, 164, 0, 5, 2, 172, 42, 27, 181, 0, 30, 27, 172]
abbrev dktX0_end_0 : List UInt8 := dkwX0_end_0 ++ []
theorem dksX0_end_0 : cX0_end.data.toList.drop 0 = dktX0_end_0 := by decide +kernel
theorem dX0_end_0 : decode cX0_end 0 = .ok (.iload_n 1, 1) := dk_27 (dk_at dksX0_end_0 0 rfl rfl)
theorem dX0_end_1 : decode cX0_end 1 = .ok (.ifCond .lt 11, 3) := dk_155 0 11 (dk_at dksX0_end_0 1 rfl rfl)
theorem dX0_end_4 : decode cX0_end 4 = .ok (.iload_n 1, 1) := dk_27 (dk_at dksX0_end_0 4 rfl rfl)
theorem dX0_end_5 : decode cX0_end 5 = .ok (.aload_n 0, 1) := dk_42 (dk_at dksX0_end_0 5 rfl rfl)
theorem dX0_end_6 : decode cX0_end 6 = .ok (.getfield 30, 3) := dk_180 0 30 (dk_at dksX0_end_0 6 rfl rfl)
theorem dX0_end_9 : decode cX0_end 9 = .ok (.if_icmp .le 5, 3) := dk_164 0 5 (dk_at dksX0_end_0 9 rfl rfl)
theorem dX0_end_12 : decode cX0_end 12 = .ok (.iconst (-1), 1) := dk_2 (dk_at dksX0_end_0 12 rfl rfl)
theorem dX0_end_13 : decode cX0_end 13 = .ok (.ireturn, 1) := dk_172 (dk_at dksX0_end_0 13 rfl rfl)
theorem dX0_end_14 : decode cX0_end 14 = .ok (.aload_n 0, 1) := dk_42 (dk_at dksX0_end_0 14 rfl rfl)
theorem dX0_end_15 : decode cX0_end 15 = .ok (.iload_n 1, 1) := dk_27 (dk_at dksX0_end_0 15 rfl rfl)
theorem dX0_end_16 : decode cX0_end 16 = .ok (.putfield 30, 3) := dk_181 0 30 (dk_at dksX0_end_0 16 rfl rfl)
theorem dX0_end_19 : decode cX0_end 19 = .ok (.iload_n 1, 1) := dk_27 (dk_at dksX0_end_0 19 rfl rfl)
theorem dX0_end_20 : decode cX0_end 20 = .ok (.ireturn, 1) := dk_172 (dk_at dksX0_end_0 20 rfl rfl)
abbrev cX0_grades : ByteArray := prog_1_method_11_code
def yX0_grades : MethodName := ⟨RX0, "grades", "()I"⟩
def dkwX0_grades_2 : List UInt8 := [172, 77, 42, 44, 180, 0, 76, 44, 180, 0, 79, 182, 0, 53, 172]
abbrev dktX0_grades_2 : List UInt8 := dkwX0_grades_2 ++ []
def dkwX0_grades_1 : List UInt8 := [182, 0, 53, 87, 42, 43, 182, 0, 57, 181, 0, 61, 42, 3, 181, 0, 65, 42, 180, 0, 61, 180, 0, 69]
abbrev dktX0_grades_1 : List UInt8 := dkwX0_grades_1 ++ dktX0_grades_2
def dkwX0_grades_0 : List UInt8 := [187, 0, 47, 89, 42, 180, 0, 37, 42, 180, 0, 30, 183, 0, 49, 76, 42, 3, 181, 0, 30, 42, 3, 2]
abbrev dktX0_grades_0 : List UInt8 := dkwX0_grades_0 ++ dktX0_grades_1
theorem dksX0_grades_0 : cX0_grades.data.toList.drop 0 = dktX0_grades_0 := by decide +kernel
theorem dksX0_grades_1 : cX0_grades.data.toList.drop 24 = dktX0_grades_1 := dk_seg dksX0_grades_0 24 rfl rfl
theorem dksX0_grades_2 : cX0_grades.data.toList.drop 48 = dktX0_grades_2 := dk_seg dksX0_grades_1 24 rfl rfl
theorem dX0_grades_0 : decode cX0_grades 0 = .ok (.new 47, 3) := dk_187 0 47 (dk_at dksX0_grades_0 0 rfl rfl)
theorem dX0_grades_3 : decode cX0_grades 3 = .ok (.dup, 1) := dk_89 (dk_at dksX0_grades_0 3 rfl rfl)
theorem dX0_grades_4 : decode cX0_grades 4 = .ok (.aload_n 0, 1) := dk_42 (dk_at dksX0_grades_0 4 rfl rfl)
theorem dX0_grades_5 : decode cX0_grades 5 = .ok (.getfield 37, 3) := dk_180 0 37 (dk_at dksX0_grades_0 5 rfl rfl)
theorem dX0_grades_8 : decode cX0_grades 8 = .ok (.aload_n 0, 1) := dk_42 (dk_at dksX0_grades_0 8 rfl rfl)
theorem dX0_grades_9 : decode cX0_grades 9 = .ok (.getfield 30, 3) := dk_180 0 30 (dk_at dksX0_grades_0 9 rfl rfl)
theorem dX0_grades_12 : decode cX0_grades 12 = .ok (.invokespecial 49, 3) := dk_183 0 49 (dk_at dksX0_grades_0 12 rfl rfl)
theorem dX0_grades_15 : decode cX0_grades 15 = .ok (.astore_n 1, 1) := dk_76 (dk_at dksX0_grades_0 15 rfl rfl)
theorem dX0_grades_16 : decode cX0_grades 16 = .ok (.aload_n 0, 1) := dk_42 (dk_at dksX0_grades_0 16 rfl rfl)
theorem dX0_grades_17 : decode cX0_grades 17 = .ok (.iconst 0, 1) := dk_3 (dk_at dksX0_grades_0 17 rfl rfl)
theorem dX0_grades_18 : decode cX0_grades 18 = .ok (.putfield 30, 3) := dk_181 0 30 (dk_at dksX0_grades_0 18 rfl rfl)
theorem dX0_grades_21 : decode cX0_grades 21 = .ok (.aload_n 0, 1) := dk_42 (dk_at dksX0_grades_0 21 rfl rfl)
theorem dX0_grades_22 : decode cX0_grades 22 = .ok (.iconst 0, 1) := dk_3 (dk_at dksX0_grades_0 22 rfl rfl)
theorem dX0_grades_23 : decode cX0_grades 23 = .ok (.iconst (-1), 1) := dk_2 (dk_at dksX0_grades_0 23 rfl rfl)
theorem dX0_grades_24 : decode cX0_grades 24 = .ok (.invokevirtual 53, 3) := dk_182 0 53 (dk_at dksX0_grades_1 0 rfl rfl)
theorem dX0_grades_27 : decode cX0_grades 27 = .ok (.pop, 1) := dk_87 (dk_at dksX0_grades_1 3 rfl rfl)
theorem dX0_grades_28 : decode cX0_grades 28 = .ok (.aload_n 0, 1) := dk_42 (dk_at dksX0_grades_1 4 rfl rfl)
theorem dX0_grades_29 : decode cX0_grades 29 = .ok (.aload_n 1, 1) := dk_43 (dk_at dksX0_grades_1 5 rfl rfl)
theorem dX0_grades_30 : decode cX0_grades 30 = .ok (.invokevirtual 57, 3) := dk_182 0 57 (dk_at dksX0_grades_1 6 rfl rfl)
theorem dX0_grades_33 : decode cX0_grades 33 = .ok (.putfield 61, 3) := dk_181 0 61 (dk_at dksX0_grades_1 9 rfl rfl)
theorem dX0_grades_36 : decode cX0_grades 36 = .ok (.aload_n 0, 1) := dk_42 (dk_at dksX0_grades_1 12 rfl rfl)
theorem dX0_grades_37 : decode cX0_grades 37 = .ok (.iconst 0, 1) := dk_3 (dk_at dksX0_grades_1 13 rfl rfl)
theorem dX0_grades_38 : decode cX0_grades 38 = .ok (.putfield 65, 3) := dk_181 0 65 (dk_at dksX0_grades_1 14 rfl rfl)
theorem dX0_grades_41 : decode cX0_grades 41 = .ok (.aload_n 0, 1) := dk_42 (dk_at dksX0_grades_1 17 rfl rfl)
theorem dX0_grades_42 : decode cX0_grades 42 = .ok (.getfield 61, 3) := dk_180 0 61 (dk_at dksX0_grades_1 18 rfl rfl)
theorem dX0_grades_45 : decode cX0_grades 45 = .ok (.getfield 69, 3) := dk_180 0 69 (dk_at dksX0_grades_1 21 rfl rfl)
theorem dX0_grades_48 : decode cX0_grades 48 = .ok (.ireturn, 1) := dk_172 (dk_at dksX0_grades_2 0 rfl rfl)
theorem dX0_grades_49 : decode cX0_grades 49 = .ok (.astore_n 2, 1) := dk_77 (dk_at dksX0_grades_2 1 rfl rfl)
theorem dX0_grades_50 : decode cX0_grades 50 = .ok (.aload_n 0, 1) := dk_42 (dk_at dksX0_grades_2 2 rfl rfl)
theorem dX0_grades_51 : decode cX0_grades 51 = .ok (.aload_n 2, 1) := dk_44 (dk_at dksX0_grades_2 3 rfl rfl)
theorem dX0_grades_52 : decode cX0_grades 52 = .ok (.getfield 76, 3) := dk_180 0 76 (dk_at dksX0_grades_2 4 rfl rfl)
theorem dX0_grades_55 : decode cX0_grades 55 = .ok (.aload_n 2, 1) := dk_44 (dk_at dksX0_grades_2 7 rfl rfl)
theorem dX0_grades_56 : decode cX0_grades 56 = .ok (.getfield 79, 3) := dk_180 0 79 (dk_at dksX0_grades_2 8 rfl rfl)
theorem dX0_grades_59 : decode cX0_grades 59 = .ok (.invokevirtual 53, 3) := dk_182 0 53 (dk_at dksX0_grades_2 11 rfl rfl)
theorem dX0_grades_62 : decode cX0_grades 62 = .ok (.ireturn, 1) := dk_172 (dk_at dksX0_grades_2 14 rfl rfl)
abbrev cX0_faulty : ByteArray := prog_1_method_10_code
def yX0_faulty : MethodName := ⟨RX0, "faulty", "(II)I"⟩
def dkwX0_faulty_0 : List UInt8 := [42, 27, 181, 0, 41, 42, 28, 181, 0, 44, 27, 158, 0, 7, 2, 167, 0, 4, 3, 172]
abbrev dktX0_faulty_0 : List UInt8 := dkwX0_faulty_0 ++ []
theorem dksX0_faulty_0 : cX0_faulty.data.toList.drop 0 = dktX0_faulty_0 := by decide +kernel
theorem dX0_faulty_0 : decode cX0_faulty 0 = .ok (.aload_n 0, 1) := dk_42 (dk_at dksX0_faulty_0 0 rfl rfl)
theorem dX0_faulty_1 : decode cX0_faulty 1 = .ok (.iload_n 1, 1) := dk_27 (dk_at dksX0_faulty_0 1 rfl rfl)
theorem dX0_faulty_2 : decode cX0_faulty 2 = .ok (.putfield 41, 3) := dk_181 0 41 (dk_at dksX0_faulty_0 2 rfl rfl)
theorem dX0_faulty_5 : decode cX0_faulty 5 = .ok (.aload_n 0, 1) := dk_42 (dk_at dksX0_faulty_0 5 rfl rfl)
theorem dX0_faulty_6 : decode cX0_faulty 6 = .ok (.iload_n 2, 1) := dk_28 (dk_at dksX0_faulty_0 6 rfl rfl)
theorem dX0_faulty_7 : decode cX0_faulty 7 = .ok (.putfield 44, 3) := dk_181 0 44 (dk_at dksX0_faulty_0 7 rfl rfl)
theorem dX0_faulty_10 : decode cX0_faulty 10 = .ok (.iload_n 1, 1) := dk_27 (dk_at dksX0_faulty_0 10 rfl rfl)
theorem dX0_faulty_11 : decode cX0_faulty 11 = .ok (.ifCond .le 7, 3) := dk_158 0 7 (dk_at dksX0_faulty_0 11 rfl rfl)
theorem dX0_faulty_14 : decode cX0_faulty 14 = .ok (.iconst (-1), 1) := dk_2 (dk_at dksX0_faulty_0 14 rfl rfl)
theorem dX0_faulty_15 : decode cX0_faulty 15 = .ok (.goto 4, 3) := dk_167 0 4 (dk_at dksX0_faulty_0 15 rfl rfl)
theorem dX0_faulty_18 : decode cX0_faulty 18 = .ok (.iconst 0, 1) := dk_3 (dk_at dksX0_faulty_0 18 rfl rfl)
theorem dX0_faulty_19 : decode cX0_faulty 19 = .ok (.ireturn, 1) := dk_172 (dk_at dksX0_faulty_0 19 rfl rfl)
abbrev cX0_fault : ByteArray := prog_1_method_12_code
def yX0_fault : MethodName := ⟨RX0, "fault", "(I)I"⟩
def dkwX0_fault_1 : List UInt8 := [172]
abbrev dktX0_fault_1 : List UInt8 := dkwX0_fault_1 ++ []
def dkwX0_fault_0 : List UInt8 := [27, 154, 0, 10, 42, 180, 0, 41, 167, 0, 16, 27, 4, 160, 0, 10, 42, 180, 0, 44, 167, 0, 4, 2]
abbrev dktX0_fault_0 : List UInt8 := dkwX0_fault_0 ++ dktX0_fault_1
theorem dksX0_fault_0 : cX0_fault.data.toList.drop 0 = dktX0_fault_0 := by decide +kernel
theorem dksX0_fault_1 : cX0_fault.data.toList.drop 24 = dktX0_fault_1 := dk_seg dksX0_fault_0 24 rfl rfl
theorem dX0_fault_0 : decode cX0_fault 0 = .ok (.iload_n 1, 1) := dk_27 (dk_at dksX0_fault_0 0 rfl rfl)
theorem dX0_fault_1 : decode cX0_fault 1 = .ok (.ifCond .ne 10, 3) := dk_154 0 10 (dk_at dksX0_fault_0 1 rfl rfl)
theorem dX0_fault_4 : decode cX0_fault 4 = .ok (.aload_n 0, 1) := dk_42 (dk_at dksX0_fault_0 4 rfl rfl)
theorem dX0_fault_5 : decode cX0_fault 5 = .ok (.getfield 41, 3) := dk_180 0 41 (dk_at dksX0_fault_0 5 rfl rfl)
theorem dX0_fault_8 : decode cX0_fault 8 = .ok (.goto 16, 3) := dk_167 0 16 (dk_at dksX0_fault_0 8 rfl rfl)
theorem dX0_fault_11 : decode cX0_fault 11 = .ok (.iload_n 1, 1) := dk_27 (dk_at dksX0_fault_0 11 rfl rfl)
theorem dX0_fault_12 : decode cX0_fault 12 = .ok (.iconst 1, 1) := dk_4 (dk_at dksX0_fault_0 12 rfl rfl)
theorem dX0_fault_13 : decode cX0_fault 13 = .ok (.if_icmp .ne 10, 3) := dk_160 0 10 (dk_at dksX0_fault_0 13 rfl rfl)
theorem dX0_fault_16 : decode cX0_fault 16 = .ok (.aload_n 0, 1) := dk_42 (dk_at dksX0_fault_0 16 rfl rfl)
theorem dX0_fault_17 : decode cX0_fault 17 = .ok (.getfield 44, 3) := dk_180 0 44 (dk_at dksX0_fault_0 17 rfl rfl)
theorem dX0_fault_20 : decode cX0_fault 20 = .ok (.goto 4, 3) := dk_167 0 4 (dk_at dksX0_fault_0 20 rfl rfl)
theorem dX0_fault_23 : decode cX0_fault 23 = .ok (.iconst (-1), 1) := dk_2 (dk_at dksX0_fault_0 23 rfl rfl)
theorem dX0_fault_24 : decode cX0_fault 24 = .ok (.ireturn, 1) := dk_172 (dk_at dksX0_fault_1 0 rfl rfl)
abbrev cX0_leaf : ByteArray := prog_1_method_14_code
def yX0_leaf : MethodName := ⟨RX0, "leaf", "()I"⟩
def dkwX0_leaf_3 : List UInt8 := [42, 27, 181, 0, 95, 42, 3, 181, 0, 65, 27, 172]
abbrev dktX0_leaf_3 : List UInt8 := dkwX0_leaf_3 ++ []
def dkwX0_leaf_2 : List UInt8 := [182, 0, 53, 172, 132, 2, 1, 167, 255, 222, 42, 180, 0, 37, 3, 42, 180, 0, 86, 3, 27, 184, 0, 89]
abbrev dktX0_leaf_2 : List UInt8 := dkwX0_leaf_2 ++ dktX0_leaf_3
def dkwX0_leaf_1 : List UInt8 := [28, 17, 1, 44, 159, 0, 15, 42, 180, 0, 37, 28, 51, 184, 0, 82, 154, 0, 10, 42, 4, 28]
abbrev dktX0_leaf_1 : List UInt8 := dkwX0_leaf_1 ++ dktX0_leaf_2
def dkwX0_leaf_0 : List UInt8 := [42, 180, 0, 30, 60, 42, 3, 181, 0, 30, 42, 3, 2, 182, 0, 53, 87, 3, 61, 28, 27, 162, 0, 35]
abbrev dktX0_leaf_0 : List UInt8 := dkwX0_leaf_0 ++ dktX0_leaf_1
theorem dksX0_leaf_0 : cX0_leaf.data.toList.drop 0 = dktX0_leaf_0 := by decide +kernel
theorem dksX0_leaf_1 : cX0_leaf.data.toList.drop 24 = dktX0_leaf_1 := dk_seg dksX0_leaf_0 24 rfl rfl
theorem dksX0_leaf_2 : cX0_leaf.data.toList.drop 46 = dktX0_leaf_2 := dk_seg dksX0_leaf_1 22 rfl rfl
theorem dksX0_leaf_3 : cX0_leaf.data.toList.drop 70 = dktX0_leaf_3 := dk_seg dksX0_leaf_2 24 rfl rfl
theorem dX0_leaf_0 : decode cX0_leaf 0 = .ok (.aload_n 0, 1) := dk_42 (dk_at dksX0_leaf_0 0 rfl rfl)
theorem dX0_leaf_1 : decode cX0_leaf 1 = .ok (.getfield 30, 3) := dk_180 0 30 (dk_at dksX0_leaf_0 1 rfl rfl)
theorem dX0_leaf_4 : decode cX0_leaf 4 = .ok (.istore_n 1, 1) := dk_60 (dk_at dksX0_leaf_0 4 rfl rfl)
theorem dX0_leaf_5 : decode cX0_leaf 5 = .ok (.aload_n 0, 1) := dk_42 (dk_at dksX0_leaf_0 5 rfl rfl)
theorem dX0_leaf_6 : decode cX0_leaf 6 = .ok (.iconst 0, 1) := dk_3 (dk_at dksX0_leaf_0 6 rfl rfl)
theorem dX0_leaf_7 : decode cX0_leaf 7 = .ok (.putfield 30, 3) := dk_181 0 30 (dk_at dksX0_leaf_0 7 rfl rfl)
theorem dX0_leaf_10 : decode cX0_leaf 10 = .ok (.aload_n 0, 1) := dk_42 (dk_at dksX0_leaf_0 10 rfl rfl)
theorem dX0_leaf_11 : decode cX0_leaf 11 = .ok (.iconst 0, 1) := dk_3 (dk_at dksX0_leaf_0 11 rfl rfl)
theorem dX0_leaf_12 : decode cX0_leaf 12 = .ok (.iconst (-1), 1) := dk_2 (dk_at dksX0_leaf_0 12 rfl rfl)
theorem dX0_leaf_13 : decode cX0_leaf 13 = .ok (.invokevirtual 53, 3) := dk_182 0 53 (dk_at dksX0_leaf_0 13 rfl rfl)
theorem dX0_leaf_16 : decode cX0_leaf 16 = .ok (.pop, 1) := dk_87 (dk_at dksX0_leaf_0 16 rfl rfl)
theorem dX0_leaf_17 : decode cX0_leaf 17 = .ok (.iconst 0, 1) := dk_3 (dk_at dksX0_leaf_0 17 rfl rfl)
theorem dX0_leaf_18 : decode cX0_leaf 18 = .ok (.istore_n 2, 1) := dk_61 (dk_at dksX0_leaf_0 18 rfl rfl)
theorem dX0_leaf_19 : decode cX0_leaf 19 = .ok (.iload_n 2, 1) := dk_28 (dk_at dksX0_leaf_0 19 rfl rfl)
theorem dX0_leaf_20 : decode cX0_leaf 20 = .ok (.iload_n 1, 1) := dk_27 (dk_at dksX0_leaf_0 20 rfl rfl)
theorem dX0_leaf_21 : decode cX0_leaf 21 = .ok (.if_icmp .ge 35, 3) := dk_162 0 35 (dk_at dksX0_leaf_0 21 rfl rfl)
theorem dX0_leaf_24 : decode cX0_leaf 24 = .ok (.iload_n 2, 1) := dk_28 (dk_at dksX0_leaf_1 0 rfl rfl)
theorem dX0_leaf_25 : decode cX0_leaf 25 = .ok (.sipush 300, 3) := dk_17 1 44 (dk_at dksX0_leaf_1 1 rfl rfl)
theorem dX0_leaf_28 : decode cX0_leaf 28 = .ok (.if_icmp .eq 15, 3) := dk_159 0 15 (dk_at dksX0_leaf_1 4 rfl rfl)
theorem dX0_leaf_31 : decode cX0_leaf 31 = .ok (.aload_n 0, 1) := dk_42 (dk_at dksX0_leaf_1 7 rfl rfl)
theorem dX0_leaf_32 : decode cX0_leaf 32 = .ok (.getfield 37, 3) := dk_180 0 37 (dk_at dksX0_leaf_1 8 rfl rfl)
theorem dX0_leaf_35 : decode cX0_leaf 35 = .ok (.iload_n 2, 1) := dk_28 (dk_at dksX0_leaf_1 11 rfl rfl)
theorem dX0_leaf_36 : decode cX0_leaf 36 = .ok (.baload, 1) := dk_51 (dk_at dksX0_leaf_1 12 rfl rfl)
theorem dX0_leaf_37 : decode cX0_leaf 37 = .ok (.invokestatic 82, 3) := dk_184 0 82 (dk_at dksX0_leaf_1 13 rfl rfl)
theorem dX0_leaf_40 : decode cX0_leaf 40 = .ok (.ifCond .ne 10, 3) := dk_154 0 10 (dk_at dksX0_leaf_1 16 rfl rfl)
theorem dX0_leaf_43 : decode cX0_leaf 43 = .ok (.aload_n 0, 1) := dk_42 (dk_at dksX0_leaf_1 19 rfl rfl)
theorem dX0_leaf_44 : decode cX0_leaf 44 = .ok (.iconst 1, 1) := dk_4 (dk_at dksX0_leaf_1 20 rfl rfl)
theorem dX0_leaf_45 : decode cX0_leaf 45 = .ok (.iload_n 2, 1) := dk_28 (dk_at dksX0_leaf_1 21 rfl rfl)
theorem dX0_leaf_46 : decode cX0_leaf 46 = .ok (.invokevirtual 53, 3) := dk_182 0 53 (dk_at dksX0_leaf_2 0 rfl rfl)
theorem dX0_leaf_49 : decode cX0_leaf 49 = .ok (.ireturn, 1) := dk_172 (dk_at dksX0_leaf_2 3 rfl rfl)
theorem dX0_leaf_50 : decode cX0_leaf 50 = .ok (.iinc 2 1, 3) := dk_132 2 1 (dk_at dksX0_leaf_2 4 rfl rfl)
theorem dX0_leaf_53 : decode cX0_leaf 53 = .ok (.goto (-34), 3) := dk_167 255 222 (dk_at dksX0_leaf_2 7 rfl rfl)
theorem dX0_leaf_56 : decode cX0_leaf 56 = .ok (.aload_n 0, 1) := dk_42 (dk_at dksX0_leaf_2 10 rfl rfl)
theorem dX0_leaf_57 : decode cX0_leaf 57 = .ok (.getfield 37, 3) := dk_180 0 37 (dk_at dksX0_leaf_2 11 rfl rfl)
theorem dX0_leaf_60 : decode cX0_leaf 60 = .ok (.iconst 0, 1) := dk_3 (dk_at dksX0_leaf_2 14 rfl rfl)
theorem dX0_leaf_61 : decode cX0_leaf 61 = .ok (.aload_n 0, 1) := dk_42 (dk_at dksX0_leaf_2 15 rfl rfl)
theorem dX0_leaf_62 : decode cX0_leaf 62 = .ok (.getfield 86, 3) := dk_180 0 86 (dk_at dksX0_leaf_2 16 rfl rfl)
theorem dX0_leaf_65 : decode cX0_leaf 65 = .ok (.iconst 0, 1) := dk_3 (dk_at dksX0_leaf_2 19 rfl rfl)
theorem dX0_leaf_66 : decode cX0_leaf 66 = .ok (.iload_n 1, 1) := dk_27 (dk_at dksX0_leaf_2 20 rfl rfl)
theorem dX0_leaf_67 : decode cX0_leaf 67 = .ok (.invokestatic 89, 3) := dk_184 0 89 (dk_at dksX0_leaf_2 21 rfl rfl)
theorem dX0_leaf_70 : decode cX0_leaf 70 = .ok (.aload_n 0, 1) := dk_42 (dk_at dksX0_leaf_3 0 rfl rfl)
theorem dX0_leaf_71 : decode cX0_leaf 71 = .ok (.iload_n 1, 1) := dk_27 (dk_at dksX0_leaf_3 1 rfl rfl)
theorem dX0_leaf_72 : decode cX0_leaf 72 = .ok (.putfield 95, 3) := dk_181 0 95 (dk_at dksX0_leaf_3 2 rfl rfl)
theorem dX0_leaf_75 : decode cX0_leaf 75 = .ok (.aload_n 0, 1) := dk_42 (dk_at dksX0_leaf_3 5 rfl rfl)
theorem dX0_leaf_76 : decode cX0_leaf 76 = .ok (.iconst 0, 1) := dk_3 (dk_at dksX0_leaf_3 6 rfl rfl)
theorem dX0_leaf_77 : decode cX0_leaf 77 = .ok (.putfield 65, 3) := dk_181 0 65 (dk_at dksX0_leaf_3 7 rfl rfl)
theorem dX0_leaf_80 : decode cX0_leaf 80 = .ok (.iload_n 1, 1) := dk_27 (dk_at dksX0_leaf_3 10 rfl rfl)
theorem dX0_leaf_81 : decode cX0_leaf 81 = .ok (.ireturn, 1) := dk_172 (dk_at dksX0_leaf_3 11 rfl rfl)
abbrev cX0_isMark : ByteArray := prog_1_method_13_code
def yX0_isMark : MethodName := ⟨RX0, "isMark", "(I)Z"⟩
def dkwX0_isMark_1 : List UInt8 := [26, 16, 112, 160, 0, 7, 4, 167, 0, 4, 3, 172]
abbrev dktX0_isMark_1 : List UInt8 := dkwX0_isMark_1 ++ []
def dkwX0_isMark_0 : List UInt8 := [26, 16, 46, 159, 0, 27, 26, 16, 107, 159, 0, 21, 26, 16, 115, 159, 0, 15, 26, 16, 111, 159, 0, 9]
abbrev dktX0_isMark_0 : List UInt8 := dkwX0_isMark_0 ++ dktX0_isMark_1
theorem dksX0_isMark_0 : cX0_isMark.data.toList.drop 0 = dktX0_isMark_0 := by decide +kernel
theorem dksX0_isMark_1 : cX0_isMark.data.toList.drop 24 = dktX0_isMark_1 := dk_seg dksX0_isMark_0 24 rfl rfl
theorem dX0_isMark_0 : decode cX0_isMark 0 = .ok (.iload_n 0, 1) := dk_26 (dk_at dksX0_isMark_0 0 rfl rfl)
theorem dX0_isMark_1 : decode cX0_isMark 1 = .ok (.bipush 46, 2) := dk_16 46 (dk_at dksX0_isMark_0 1 rfl rfl)
theorem dX0_isMark_3 : decode cX0_isMark 3 = .ok (.if_icmp .eq 27, 3) := dk_159 0 27 (dk_at dksX0_isMark_0 3 rfl rfl)
theorem dX0_isMark_6 : decode cX0_isMark 6 = .ok (.iload_n 0, 1) := dk_26 (dk_at dksX0_isMark_0 6 rfl rfl)
theorem dX0_isMark_7 : decode cX0_isMark 7 = .ok (.bipush 107, 2) := dk_16 107 (dk_at dksX0_isMark_0 7 rfl rfl)
theorem dX0_isMark_9 : decode cX0_isMark 9 = .ok (.if_icmp .eq 21, 3) := dk_159 0 21 (dk_at dksX0_isMark_0 9 rfl rfl)
theorem dX0_isMark_12 : decode cX0_isMark 12 = .ok (.iload_n 0, 1) := dk_26 (dk_at dksX0_isMark_0 12 rfl rfl)
theorem dX0_isMark_13 : decode cX0_isMark 13 = .ok (.bipush 115, 2) := dk_16 115 (dk_at dksX0_isMark_0 13 rfl rfl)
theorem dX0_isMark_15 : decode cX0_isMark 15 = .ok (.if_icmp .eq 15, 3) := dk_159 0 15 (dk_at dksX0_isMark_0 15 rfl rfl)
theorem dX0_isMark_18 : decode cX0_isMark 18 = .ok (.iload_n 0, 1) := dk_26 (dk_at dksX0_isMark_0 18 rfl rfl)
theorem dX0_isMark_19 : decode cX0_isMark 19 = .ok (.bipush 111, 2) := dk_16 111 (dk_at dksX0_isMark_0 19 rfl rfl)
theorem dX0_isMark_21 : decode cX0_isMark 21 = .ok (.if_icmp .eq 9, 3) := dk_159 0 9 (dk_at dksX0_isMark_0 21 rfl rfl)
theorem dX0_isMark_24 : decode cX0_isMark 24 = .ok (.iload_n 0, 1) := dk_26 (dk_at dksX0_isMark_1 0 rfl rfl)
theorem dX0_isMark_25 : decode cX0_isMark 25 = .ok (.bipush 112, 2) := dk_16 112 (dk_at dksX0_isMark_1 1 rfl rfl)
theorem dX0_isMark_27 : decode cX0_isMark 27 = .ok (.if_icmp .ne 7, 3) := dk_160 0 7 (dk_at dksX0_isMark_1 3 rfl rfl)
theorem dX0_isMark_30 : decode cX0_isMark 30 = .ok (.iconst 1, 1) := dk_4 (dk_at dksX0_isMark_1 6 rfl rfl)
theorem dX0_isMark_31 : decode cX0_isMark 31 = .ok (.goto 4, 3) := dk_167 0 4 (dk_at dksX0_isMark_1 7 rfl rfl)
theorem dX0_isMark_34 : decode cX0_isMark 34 = .ok (.iconst 0, 1) := dk_3 (dk_at dksX0_isMark_1 10 rfl rfl)
theorem dX0_isMark_35 : decode cX0_isMark 35 = .ok (.ireturn, 1) := dk_172 (dk_at dksX0_isMark_1 11 rfl rfl)
abbrev cX0_patch : ByteArray := prog_1_method_15_code
def yX0_patch : MethodName := ⟨RX0, "patch", "(II)Z"⟩
def dkwX0_patch_1 : List UInt8 := [181, 0, 98, 42, 28, 181, 0, 101, 42, 3, 181, 0, 65, 4, 172]
abbrev dktX0_patch_1 : List UInt8 := dkwX0_patch_1 ++ []
def dkwX0_patch_0 : List UInt8 := [27, 155, 0, 18, 27, 6, 163, 0, 13, 28, 155, 0, 9, 28, 16, 100, 164, 0, 5, 3, 172, 42, 27]
abbrev dktX0_patch_0 : List UInt8 := dkwX0_patch_0 ++ dktX0_patch_1
theorem dksX0_patch_0 : cX0_patch.data.toList.drop 0 = dktX0_patch_0 := by decide +kernel
theorem dksX0_patch_1 : cX0_patch.data.toList.drop 23 = dktX0_patch_1 := dk_seg dksX0_patch_0 23 rfl rfl
theorem dX0_patch_0 : decode cX0_patch 0 = .ok (.iload_n 1, 1) := dk_27 (dk_at dksX0_patch_0 0 rfl rfl)
theorem dX0_patch_1 : decode cX0_patch 1 = .ok (.ifCond .lt 18, 3) := dk_155 0 18 (dk_at dksX0_patch_0 1 rfl rfl)
theorem dX0_patch_4 : decode cX0_patch 4 = .ok (.iload_n 1, 1) := dk_27 (dk_at dksX0_patch_0 4 rfl rfl)
theorem dX0_patch_5 : decode cX0_patch 5 = .ok (.iconst 3, 1) := dk_6 (dk_at dksX0_patch_0 5 rfl rfl)
theorem dX0_patch_6 : decode cX0_patch 6 = .ok (.if_icmp .gt 13, 3) := dk_163 0 13 (dk_at dksX0_patch_0 6 rfl rfl)
theorem dX0_patch_9 : decode cX0_patch 9 = .ok (.iload_n 2, 1) := dk_28 (dk_at dksX0_patch_0 9 rfl rfl)
theorem dX0_patch_10 : decode cX0_patch 10 = .ok (.ifCond .lt 9, 3) := dk_155 0 9 (dk_at dksX0_patch_0 10 rfl rfl)
theorem dX0_patch_13 : decode cX0_patch 13 = .ok (.iload_n 2, 1) := dk_28 (dk_at dksX0_patch_0 13 rfl rfl)
theorem dX0_patch_14 : decode cX0_patch 14 = .ok (.bipush 100, 2) := dk_16 100 (dk_at dksX0_patch_0 14 rfl rfl)
theorem dX0_patch_16 : decode cX0_patch 16 = .ok (.if_icmp .le 5, 3) := dk_164 0 5 (dk_at dksX0_patch_0 16 rfl rfl)
theorem dX0_patch_19 : decode cX0_patch 19 = .ok (.iconst 0, 1) := dk_3 (dk_at dksX0_patch_0 19 rfl rfl)
theorem dX0_patch_20 : decode cX0_patch 20 = .ok (.ireturn, 1) := dk_172 (dk_at dksX0_patch_0 20 rfl rfl)
theorem dX0_patch_21 : decode cX0_patch 21 = .ok (.aload_n 0, 1) := dk_42 (dk_at dksX0_patch_0 21 rfl rfl)
theorem dX0_patch_22 : decode cX0_patch 22 = .ok (.iload_n 1, 1) := dk_27 (dk_at dksX0_patch_0 22 rfl rfl)
theorem dX0_patch_23 : decode cX0_patch 23 = .ok (.putfield 98, 3) := dk_181 0 98 (dk_at dksX0_patch_1 0 rfl rfl)
theorem dX0_patch_26 : decode cX0_patch 26 = .ok (.aload_n 0, 1) := dk_42 (dk_at dksX0_patch_1 3 rfl rfl)
theorem dX0_patch_27 : decode cX0_patch 27 = .ok (.iload_n 2, 1) := dk_28 (dk_at dksX0_patch_1 4 rfl rfl)
theorem dX0_patch_28 : decode cX0_patch 28 = .ok (.putfield 101, 3) := dk_181 0 101 (dk_at dksX0_patch_1 5 rfl rfl)
theorem dX0_patch_31 : decode cX0_patch 31 = .ok (.aload_n 0, 1) := dk_42 (dk_at dksX0_patch_1 8 rfl rfl)
theorem dX0_patch_32 : decode cX0_patch 32 = .ok (.iconst 0, 1) := dk_3 (dk_at dksX0_patch_1 9 rfl rfl)
theorem dX0_patch_33 : decode cX0_patch 33 = .ok (.putfield 65, 3) := dk_181 0 65 (dk_at dksX0_patch_1 10 rfl rfl)
theorem dX0_patch_36 : decode cX0_patch 36 = .ok (.iconst 1, 1) := dk_4 (dk_at dksX0_patch_1 13 rfl rfl)
theorem dX0_patch_37 : decode cX0_patch 37 = .ok (.ireturn, 1) := dk_172 (dk_at dksX0_patch_1 14 rfl rfl)
abbrev cX0_sheet : ByteArray := prog_1_method_19_code
def yX0_sheet : MethodName := ⟨RX0, "sheet", "(III)I"⟩
def dkwX0_sheet_2 : List UInt8 := [3, 172]
abbrev dktX0_sheet_2 : List UInt8 := dkwX0_sheet_2 ++ []
def dkwX0_sheet_1 : List UInt8 := [180, 0, 61, 180, 0, 140, 28, 46, 182, 0, 146, 42, 28, 29, 182, 0, 150, 153, 0, 7, 4, 167, 0, 4]
abbrev dktX0_sheet_1 : List UInt8 := dkwX0_sheet_1 ++ dktX0_sheet_2
def dkwX0_sheet_0 : List UInt8 := [42, 27, 28, 182, 0, 143, 153, 0, 12, 29, 155, 0, 8, 29, 6, 164, 0, 5, 2, 172, 42, 27, 42]
abbrev dktX0_sheet_0 : List UInt8 := dkwX0_sheet_0 ++ dktX0_sheet_1
theorem dksX0_sheet_0 : cX0_sheet.data.toList.drop 0 = dktX0_sheet_0 := by decide +kernel
theorem dksX0_sheet_1 : cX0_sheet.data.toList.drop 23 = dktX0_sheet_1 := dk_seg dksX0_sheet_0 23 rfl rfl
theorem dksX0_sheet_2 : cX0_sheet.data.toList.drop 47 = dktX0_sheet_2 := dk_seg dksX0_sheet_1 24 rfl rfl
theorem dX0_sheet_0 : decode cX0_sheet 0 = .ok (.aload_n 0, 1) := dk_42 (dk_at dksX0_sheet_0 0 rfl rfl)
theorem dX0_sheet_1 : decode cX0_sheet 1 = .ok (.iload_n 1, 1) := dk_27 (dk_at dksX0_sheet_0 1 rfl rfl)
theorem dX0_sheet_2 : decode cX0_sheet 2 = .ok (.iload_n 2, 1) := dk_28 (dk_at dksX0_sheet_0 2 rfl rfl)
theorem dX0_sheet_3 : decode cX0_sheet 3 = .ok (.invokevirtual 143, 3) := dk_182 0 143 (dk_at dksX0_sheet_0 3 rfl rfl)
theorem dX0_sheet_6 : decode cX0_sheet 6 = .ok (.ifCond .eq 12, 3) := dk_153 0 12 (dk_at dksX0_sheet_0 6 rfl rfl)
theorem dX0_sheet_9 : decode cX0_sheet 9 = .ok (.iload_n 3, 1) := dk_29 (dk_at dksX0_sheet_0 9 rfl rfl)
theorem dX0_sheet_10 : decode cX0_sheet 10 = .ok (.ifCond .lt 8, 3) := dk_155 0 8 (dk_at dksX0_sheet_0 10 rfl rfl)
theorem dX0_sheet_13 : decode cX0_sheet 13 = .ok (.iload_n 3, 1) := dk_29 (dk_at dksX0_sheet_0 13 rfl rfl)
theorem dX0_sheet_14 : decode cX0_sheet 14 = .ok (.iconst 3, 1) := dk_6 (dk_at dksX0_sheet_0 14 rfl rfl)
theorem dX0_sheet_15 : decode cX0_sheet 15 = .ok (.if_icmp .le 5, 3) := dk_164 0 5 (dk_at dksX0_sheet_0 15 rfl rfl)
theorem dX0_sheet_18 : decode cX0_sheet 18 = .ok (.iconst (-1), 1) := dk_2 (dk_at dksX0_sheet_0 18 rfl rfl)
theorem dX0_sheet_19 : decode cX0_sheet 19 = .ok (.ireturn, 1) := dk_172 (dk_at dksX0_sheet_0 19 rfl rfl)
theorem dX0_sheet_20 : decode cX0_sheet 20 = .ok (.aload_n 0, 1) := dk_42 (dk_at dksX0_sheet_0 20 rfl rfl)
theorem dX0_sheet_21 : decode cX0_sheet 21 = .ok (.iload_n 1, 1) := dk_27 (dk_at dksX0_sheet_0 21 rfl rfl)
theorem dX0_sheet_22 : decode cX0_sheet 22 = .ok (.aload_n 0, 1) := dk_42 (dk_at dksX0_sheet_0 22 rfl rfl)
theorem dX0_sheet_23 : decode cX0_sheet 23 = .ok (.getfield 61, 3) := dk_180 0 61 (dk_at dksX0_sheet_1 0 rfl rfl)
theorem dX0_sheet_26 : decode cX0_sheet 26 = .ok (.getfield 140, 3) := dk_180 0 140 (dk_at dksX0_sheet_1 3 rfl rfl)
theorem dX0_sheet_29 : decode cX0_sheet 29 = .ok (.iload_n 2, 1) := dk_28 (dk_at dksX0_sheet_1 6 rfl rfl)
theorem dX0_sheet_30 : decode cX0_sheet 30 = .ok (.iaload, 1) := dk_46 (dk_at dksX0_sheet_1 7 rfl rfl)
theorem dX0_sheet_31 : decode cX0_sheet 31 = .ok (.invokevirtual 146, 3) := dk_182 0 146 (dk_at dksX0_sheet_1 8 rfl rfl)
theorem dX0_sheet_34 : decode cX0_sheet 34 = .ok (.aload_n 0, 1) := dk_42 (dk_at dksX0_sheet_1 11 rfl rfl)
theorem dX0_sheet_35 : decode cX0_sheet 35 = .ok (.iload_n 2, 1) := dk_28 (dk_at dksX0_sheet_1 12 rfl rfl)
theorem dX0_sheet_36 : decode cX0_sheet 36 = .ok (.iload_n 3, 1) := dk_29 (dk_at dksX0_sheet_1 13 rfl rfl)
theorem dX0_sheet_37 : decode cX0_sheet 37 = .ok (.invokevirtual 150, 3) := dk_182 0 150 (dk_at dksX0_sheet_1 14 rfl rfl)
theorem dX0_sheet_40 : decode cX0_sheet 40 = .ok (.ifCond .eq 7, 3) := dk_153 0 7 (dk_at dksX0_sheet_1 17 rfl rfl)
theorem dX0_sheet_43 : decode cX0_sheet 43 = .ok (.iconst 1, 1) := dk_4 (dk_at dksX0_sheet_1 20 rfl rfl)
theorem dX0_sheet_44 : decode cX0_sheet 44 = .ok (.goto 4, 3) := dk_167 0 4 (dk_at dksX0_sheet_1 21 rfl rfl)
theorem dX0_sheet_47 : decode cX0_sheet 47 = .ok (.iconst 0, 1) := dk_3 (dk_at dksX0_sheet_2 0 rfl rfl)
theorem dX0_sheet_48 : decode cX0_sheet 48 = .ok (.ireturn, 1) := dk_172 (dk_at dksX0_sheet_2 1 rfl rfl)
abbrev cX0_isThere : ByteArray := prog_1_method_18_code
def yX0_isThere : MethodName := ⟨RX0, "isThere", "(II)Z"⟩
def dkwX0_isThere_1 : List UInt8 := [42, 180, 0, 61, 180, 0, 140, 28, 46, 100, 163, 0, 7, 4, 167, 0, 4, 3, 172]
abbrev dktX0_isThere_1 : List UInt8 := dkwX0_isThere_1 ++ []
def dkwX0_isThere_0 : List UInt8 := [28, 155, 0, 40, 28, 42, 180, 0, 61, 180, 0, 69, 162, 0, 29, 27, 155, 0, 25, 27, 42, 180, 0, 95]
abbrev dktX0_isThere_0 : List UInt8 := dkwX0_isThere_0 ++ dktX0_isThere_1
theorem dksX0_isThere_0 : cX0_isThere.data.toList.drop 0 = dktX0_isThere_0 := by decide +kernel
theorem dksX0_isThere_1 : cX0_isThere.data.toList.drop 24 = dktX0_isThere_1 := dk_seg dksX0_isThere_0 24 rfl rfl
theorem dX0_isThere_0 : decode cX0_isThere 0 = .ok (.iload_n 2, 1) := dk_28 (dk_at dksX0_isThere_0 0 rfl rfl)
theorem dX0_isThere_1 : decode cX0_isThere 1 = .ok (.ifCond .lt 40, 3) := dk_155 0 40 (dk_at dksX0_isThere_0 1 rfl rfl)
theorem dX0_isThere_4 : decode cX0_isThere 4 = .ok (.iload_n 2, 1) := dk_28 (dk_at dksX0_isThere_0 4 rfl rfl)
theorem dX0_isThere_5 : decode cX0_isThere 5 = .ok (.aload_n 0, 1) := dk_42 (dk_at dksX0_isThere_0 5 rfl rfl)
theorem dX0_isThere_6 : decode cX0_isThere 6 = .ok (.getfield 61, 3) := dk_180 0 61 (dk_at dksX0_isThere_0 6 rfl rfl)
theorem dX0_isThere_9 : decode cX0_isThere 9 = .ok (.getfield 69, 3) := dk_180 0 69 (dk_at dksX0_isThere_0 9 rfl rfl)
theorem dX0_isThere_12 : decode cX0_isThere 12 = .ok (.if_icmp .ge 29, 3) := dk_162 0 29 (dk_at dksX0_isThere_0 12 rfl rfl)
theorem dX0_isThere_15 : decode cX0_isThere 15 = .ok (.iload_n 1, 1) := dk_27 (dk_at dksX0_isThere_0 15 rfl rfl)
theorem dX0_isThere_16 : decode cX0_isThere 16 = .ok (.ifCond .lt 25, 3) := dk_155 0 25 (dk_at dksX0_isThere_0 16 rfl rfl)
theorem dX0_isThere_19 : decode cX0_isThere 19 = .ok (.iload_n 1, 1) := dk_27 (dk_at dksX0_isThere_0 19 rfl rfl)
theorem dX0_isThere_20 : decode cX0_isThere 20 = .ok (.aload_n 0, 1) := dk_42 (dk_at dksX0_isThere_0 20 rfl rfl)
theorem dX0_isThere_21 : decode cX0_isThere 21 = .ok (.getfield 95, 3) := dk_180 0 95 (dk_at dksX0_isThere_0 21 rfl rfl)
theorem dX0_isThere_24 : decode cX0_isThere 24 = .ok (.aload_n 0, 1) := dk_42 (dk_at dksX0_isThere_1 0 rfl rfl)
theorem dX0_isThere_25 : decode cX0_isThere 25 = .ok (.getfield 61, 3) := dk_180 0 61 (dk_at dksX0_isThere_1 1 rfl rfl)
theorem dX0_isThere_28 : decode cX0_isThere 28 = .ok (.getfield 140, 3) := dk_180 0 140 (dk_at dksX0_isThere_1 4 rfl rfl)
theorem dX0_isThere_31 : decode cX0_isThere 31 = .ok (.iload_n 2, 1) := dk_28 (dk_at dksX0_isThere_1 7 rfl rfl)
theorem dX0_isThere_32 : decode cX0_isThere 32 = .ok (.iaload, 1) := dk_46 (dk_at dksX0_isThere_1 8 rfl rfl)
theorem dX0_isThere_33 : decode cX0_isThere 33 = .ok (.isub, 1) := dk_100 (dk_at dksX0_isThere_1 9 rfl rfl)
theorem dX0_isThere_34 : decode cX0_isThere 34 = .ok (.if_icmp .gt 7, 3) := dk_163 0 7 (dk_at dksX0_isThere_1 10 rfl rfl)
theorem dX0_isThere_37 : decode cX0_isThere 37 = .ok (.iconst 1, 1) := dk_4 (dk_at dksX0_isThere_1 13 rfl rfl)
theorem dX0_isThere_38 : decode cX0_isThere 38 = .ok (.goto 4, 3) := dk_167 0 4 (dk_at dksX0_isThere_1 14 rfl rfl)
theorem dX0_isThere_41 : decode cX0_isThere 41 = .ok (.iconst 0, 1) := dk_3 (dk_at dksX0_isThere_1 17 rfl rfl)
theorem dX0_isThere_42 : decode cX0_isThere 42 = .ok (.ireturn, 1) := dk_172 (dk_at dksX0_isThere_1 18 rfl rfl)
abbrev cX0_look : ByteArray := prog_1_method_16_code
def yX0_look : MethodName := ⟨RX0, "look", "(II)V"⟩
def dkwX0_look_8 : List UInt8 := [132, 4, 1, 167, 255, 107, 177]
abbrev dktX0_look_8 : List UInt8 := dkwX0_look_8 ++ []
def dkwX0_look_7 : List UInt8 := [167, 0, 4, 3, 62, 42, 180, 0, 104, 42, 180, 0, 104, 180, 0, 122, 29, 184, 0, 125, 181, 0, 122]
abbrev dktX0_look_7 : List UInt8 := dkwX0_look_7 ++ dktX0_look_8
def dkwX0_look_6 : List UInt8 := [16, 112, 160, 0, 7, 4, 167, 0, 4, 3, 96, 181, 0, 119, 21, 5, 16, 46, 160, 0, 9, 29, 4, 96]
abbrev dktX0_look_6 : List UInt8 := dkwX0_look_6 ++ dktX0_look_7
def dkwX0_look_5 : List UInt8 := [16, 111, 160, 0, 7, 4, 167, 0, 4, 3, 96, 181, 0, 116, 42, 180, 0, 104, 89, 180, 0, 119, 21, 5]
abbrev dktX0_look_5 : List UInt8 := dkwX0_look_5 ++ dktX0_look_6
def dkwX0_look_4 : List UInt8 := [16, 115, 160, 0, 7, 4, 167, 0, 4, 3, 96, 181, 0, 113, 42, 180, 0, 104, 89, 180, 0, 116, 21, 5]
abbrev dktX0_look_4 : List UInt8 := dkwX0_look_4 ++ dktX0_look_5
def dkwX0_look_3 : List UInt8 := [16, 107, 160, 0, 7, 4, 167, 0, 4, 3, 96, 181, 0, 108, 42, 180, 0, 104, 89, 180, 0, 113, 21, 5]
abbrev dktX0_look_3 : List UInt8 := dkwX0_look_3 ++ dktX0_look_4
def dkwX0_look_2 : List UInt8 := [28, 96, 162, 0, 147, 42, 180, 0, 86, 21, 4, 51, 54, 5, 42, 180, 0, 104, 89, 180, 0, 108, 21, 5]
abbrev dktX0_look_2 : List UInt8 := dkwX0_look_2 ++ dktX0_look_3
def dkwX0_look_1 : List UInt8 := [42, 180, 0, 104, 3, 181, 0, 119, 42, 180, 0, 104, 3, 181, 0, 122, 3, 62, 27, 54, 4, 21, 4, 27]
abbrev dktX0_look_1 : List UInt8 := dkwX0_look_1 ++ dktX0_look_2
def dkwX0_look_0 : List UInt8 := [42, 180, 0, 104, 3, 181, 0, 108, 42, 180, 0, 104, 3, 181, 0, 113, 42, 180, 0, 104, 3, 181, 0, 116]
abbrev dktX0_look_0 : List UInt8 := dkwX0_look_0 ++ dktX0_look_1
theorem dksX0_look_0 : cX0_look.data.toList.drop 0 = dktX0_look_0 := by decide +kernel
theorem dksX0_look_1 : cX0_look.data.toList.drop 24 = dktX0_look_1 := dk_seg dksX0_look_0 24 rfl rfl
theorem dksX0_look_2 : cX0_look.data.toList.drop 48 = dktX0_look_2 := dk_seg dksX0_look_1 24 rfl rfl
theorem dksX0_look_3 : cX0_look.data.toList.drop 72 = dktX0_look_3 := dk_seg dksX0_look_2 24 rfl rfl
theorem dksX0_look_4 : cX0_look.data.toList.drop 96 = dktX0_look_4 := dk_seg dksX0_look_3 24 rfl rfl
theorem dksX0_look_5 : cX0_look.data.toList.drop 120 = dktX0_look_5 := dk_seg dksX0_look_4 24 rfl rfl
theorem dksX0_look_6 : cX0_look.data.toList.drop 144 = dktX0_look_6 := dk_seg dksX0_look_5 24 rfl rfl
theorem dksX0_look_7 : cX0_look.data.toList.drop 168 = dktX0_look_7 := dk_seg dksX0_look_6 24 rfl rfl
theorem dksX0_look_8 : cX0_look.data.toList.drop 191 = dktX0_look_8 := dk_seg dksX0_look_7 23 rfl rfl
theorem dX0_look_0 : decode cX0_look 0 = .ok (.aload_n 0, 1) := dk_42 (dk_at dksX0_look_0 0 rfl rfl)
theorem dX0_look_1 : decode cX0_look 1 = .ok (.getfield 104, 3) := dk_180 0 104 (dk_at dksX0_look_0 1 rfl rfl)
theorem dX0_look_4 : decode cX0_look 4 = .ok (.iconst 0, 1) := dk_3 (dk_at dksX0_look_0 4 rfl rfl)
theorem dX0_look_5 : decode cX0_look 5 = .ok (.putfield 108, 3) := dk_181 0 108 (dk_at dksX0_look_0 5 rfl rfl)
theorem dX0_look_8 : decode cX0_look 8 = .ok (.aload_n 0, 1) := dk_42 (dk_at dksX0_look_0 8 rfl rfl)
theorem dX0_look_9 : decode cX0_look 9 = .ok (.getfield 104, 3) := dk_180 0 104 (dk_at dksX0_look_0 9 rfl rfl)
theorem dX0_look_12 : decode cX0_look 12 = .ok (.iconst 0, 1) := dk_3 (dk_at dksX0_look_0 12 rfl rfl)
theorem dX0_look_13 : decode cX0_look 13 = .ok (.putfield 113, 3) := dk_181 0 113 (dk_at dksX0_look_0 13 rfl rfl)
theorem dX0_look_16 : decode cX0_look 16 = .ok (.aload_n 0, 1) := dk_42 (dk_at dksX0_look_0 16 rfl rfl)
theorem dX0_look_17 : decode cX0_look 17 = .ok (.getfield 104, 3) := dk_180 0 104 (dk_at dksX0_look_0 17 rfl rfl)
theorem dX0_look_20 : decode cX0_look 20 = .ok (.iconst 0, 1) := dk_3 (dk_at dksX0_look_0 20 rfl rfl)
theorem dX0_look_21 : decode cX0_look 21 = .ok (.putfield 116, 3) := dk_181 0 116 (dk_at dksX0_look_0 21 rfl rfl)
theorem dX0_look_24 : decode cX0_look 24 = .ok (.aload_n 0, 1) := dk_42 (dk_at dksX0_look_1 0 rfl rfl)
theorem dX0_look_25 : decode cX0_look 25 = .ok (.getfield 104, 3) := dk_180 0 104 (dk_at dksX0_look_1 1 rfl rfl)
theorem dX0_look_28 : decode cX0_look 28 = .ok (.iconst 0, 1) := dk_3 (dk_at dksX0_look_1 4 rfl rfl)
theorem dX0_look_29 : decode cX0_look 29 = .ok (.putfield 119, 3) := dk_181 0 119 (dk_at dksX0_look_1 5 rfl rfl)
theorem dX0_look_32 : decode cX0_look 32 = .ok (.aload_n 0, 1) := dk_42 (dk_at dksX0_look_1 8 rfl rfl)
theorem dX0_look_33 : decode cX0_look 33 = .ok (.getfield 104, 3) := dk_180 0 104 (dk_at dksX0_look_1 9 rfl rfl)
theorem dX0_look_36 : decode cX0_look 36 = .ok (.iconst 0, 1) := dk_3 (dk_at dksX0_look_1 12 rfl rfl)
theorem dX0_look_37 : decode cX0_look 37 = .ok (.putfield 122, 3) := dk_181 0 122 (dk_at dksX0_look_1 13 rfl rfl)
theorem dX0_look_40 : decode cX0_look 40 = .ok (.iconst 0, 1) := dk_3 (dk_at dksX0_look_1 16 rfl rfl)
theorem dX0_look_41 : decode cX0_look 41 = .ok (.istore_n 3, 1) := dk_62 (dk_at dksX0_look_1 17 rfl rfl)
theorem dX0_look_42 : decode cX0_look 42 = .ok (.iload_n 1, 1) := dk_27 (dk_at dksX0_look_1 18 rfl rfl)
theorem dX0_look_43 : decode cX0_look 43 = .ok (.istore 4, 2) := dk_54 4 (dk_at dksX0_look_1 19 rfl rfl)
theorem dX0_look_45 : decode cX0_look 45 = .ok (.iload 4, 2) := dk_21 4 (dk_at dksX0_look_1 21 rfl rfl)
theorem dX0_look_47 : decode cX0_look 47 = .ok (.iload_n 1, 1) := dk_27 (dk_at dksX0_look_1 23 rfl rfl)
theorem dX0_look_48 : decode cX0_look 48 = .ok (.iload_n 2, 1) := dk_28 (dk_at dksX0_look_2 0 rfl rfl)
theorem dX0_look_49 : decode cX0_look 49 = .ok (.iadd, 1) := dk_96 (dk_at dksX0_look_2 1 rfl rfl)
theorem dX0_look_50 : decode cX0_look 50 = .ok (.if_icmp .ge 147, 3) := dk_162 0 147 (dk_at dksX0_look_2 2 rfl rfl)
theorem dX0_look_53 : decode cX0_look 53 = .ok (.aload_n 0, 1) := dk_42 (dk_at dksX0_look_2 5 rfl rfl)
theorem dX0_look_54 : decode cX0_look 54 = .ok (.getfield 86, 3) := dk_180 0 86 (dk_at dksX0_look_2 6 rfl rfl)
theorem dX0_look_57 : decode cX0_look 57 = .ok (.iload 4, 2) := dk_21 4 (dk_at dksX0_look_2 9 rfl rfl)
theorem dX0_look_59 : decode cX0_look 59 = .ok (.baload, 1) := dk_51 (dk_at dksX0_look_2 11 rfl rfl)
theorem dX0_look_60 : decode cX0_look 60 = .ok (.istore 5, 2) := dk_54 5 (dk_at dksX0_look_2 12 rfl rfl)
theorem dX0_look_62 : decode cX0_look 62 = .ok (.aload_n 0, 1) := dk_42 (dk_at dksX0_look_2 14 rfl rfl)
theorem dX0_look_63 : decode cX0_look 63 = .ok (.getfield 104, 3) := dk_180 0 104 (dk_at dksX0_look_2 15 rfl rfl)
theorem dX0_look_66 : decode cX0_look 66 = .ok (.dup, 1) := dk_89 (dk_at dksX0_look_2 18 rfl rfl)
theorem dX0_look_67 : decode cX0_look 67 = .ok (.getfield 108, 3) := dk_180 0 108 (dk_at dksX0_look_2 19 rfl rfl)
theorem dX0_look_70 : decode cX0_look 70 = .ok (.iload 5, 2) := dk_21 5 (dk_at dksX0_look_2 22 rfl rfl)
theorem dX0_look_72 : decode cX0_look 72 = .ok (.bipush 107, 2) := dk_16 107 (dk_at dksX0_look_3 0 rfl rfl)
theorem dX0_look_74 : decode cX0_look 74 = .ok (.if_icmp .ne 7, 3) := dk_160 0 7 (dk_at dksX0_look_3 2 rfl rfl)
theorem dX0_look_77 : decode cX0_look 77 = .ok (.iconst 1, 1) := dk_4 (dk_at dksX0_look_3 5 rfl rfl)
theorem dX0_look_78 : decode cX0_look 78 = .ok (.goto 4, 3) := dk_167 0 4 (dk_at dksX0_look_3 6 rfl rfl)
theorem dX0_look_81 : decode cX0_look 81 = .ok (.iconst 0, 1) := dk_3 (dk_at dksX0_look_3 9 rfl rfl)
theorem dX0_look_82 : decode cX0_look 82 = .ok (.iadd, 1) := dk_96 (dk_at dksX0_look_3 10 rfl rfl)
theorem dX0_look_83 : decode cX0_look 83 = .ok (.putfield 108, 3) := dk_181 0 108 (dk_at dksX0_look_3 11 rfl rfl)
theorem dX0_look_86 : decode cX0_look 86 = .ok (.aload_n 0, 1) := dk_42 (dk_at dksX0_look_3 14 rfl rfl)
theorem dX0_look_87 : decode cX0_look 87 = .ok (.getfield 104, 3) := dk_180 0 104 (dk_at dksX0_look_3 15 rfl rfl)
theorem dX0_look_90 : decode cX0_look 90 = .ok (.dup, 1) := dk_89 (dk_at dksX0_look_3 18 rfl rfl)
theorem dX0_look_91 : decode cX0_look 91 = .ok (.getfield 113, 3) := dk_180 0 113 (dk_at dksX0_look_3 19 rfl rfl)
theorem dX0_look_94 : decode cX0_look 94 = .ok (.iload 5, 2) := dk_21 5 (dk_at dksX0_look_3 22 rfl rfl)
theorem dX0_look_96 : decode cX0_look 96 = .ok (.bipush 115, 2) := dk_16 115 (dk_at dksX0_look_4 0 rfl rfl)
theorem dX0_look_98 : decode cX0_look 98 = .ok (.if_icmp .ne 7, 3) := dk_160 0 7 (dk_at dksX0_look_4 2 rfl rfl)
theorem dX0_look_101 : decode cX0_look 101 = .ok (.iconst 1, 1) := dk_4 (dk_at dksX0_look_4 5 rfl rfl)
theorem dX0_look_102 : decode cX0_look 102 = .ok (.goto 4, 3) := dk_167 0 4 (dk_at dksX0_look_4 6 rfl rfl)
theorem dX0_look_105 : decode cX0_look 105 = .ok (.iconst 0, 1) := dk_3 (dk_at dksX0_look_4 9 rfl rfl)
theorem dX0_look_106 : decode cX0_look 106 = .ok (.iadd, 1) := dk_96 (dk_at dksX0_look_4 10 rfl rfl)
theorem dX0_look_107 : decode cX0_look 107 = .ok (.putfield 113, 3) := dk_181 0 113 (dk_at dksX0_look_4 11 rfl rfl)
theorem dX0_look_110 : decode cX0_look 110 = .ok (.aload_n 0, 1) := dk_42 (dk_at dksX0_look_4 14 rfl rfl)
theorem dX0_look_111 : decode cX0_look 111 = .ok (.getfield 104, 3) := dk_180 0 104 (dk_at dksX0_look_4 15 rfl rfl)
theorem dX0_look_114 : decode cX0_look 114 = .ok (.dup, 1) := dk_89 (dk_at dksX0_look_4 18 rfl rfl)
theorem dX0_look_115 : decode cX0_look 115 = .ok (.getfield 116, 3) := dk_180 0 116 (dk_at dksX0_look_4 19 rfl rfl)
theorem dX0_look_118 : decode cX0_look 118 = .ok (.iload 5, 2) := dk_21 5 (dk_at dksX0_look_4 22 rfl rfl)
theorem dX0_look_120 : decode cX0_look 120 = .ok (.bipush 111, 2) := dk_16 111 (dk_at dksX0_look_5 0 rfl rfl)
theorem dX0_look_122 : decode cX0_look 122 = .ok (.if_icmp .ne 7, 3) := dk_160 0 7 (dk_at dksX0_look_5 2 rfl rfl)
theorem dX0_look_125 : decode cX0_look 125 = .ok (.iconst 1, 1) := dk_4 (dk_at dksX0_look_5 5 rfl rfl)
theorem dX0_look_126 : decode cX0_look 126 = .ok (.goto 4, 3) := dk_167 0 4 (dk_at dksX0_look_5 6 rfl rfl)
theorem dX0_look_129 : decode cX0_look 129 = .ok (.iconst 0, 1) := dk_3 (dk_at dksX0_look_5 9 rfl rfl)
theorem dX0_look_130 : decode cX0_look 130 = .ok (.iadd, 1) := dk_96 (dk_at dksX0_look_5 10 rfl rfl)
theorem dX0_look_131 : decode cX0_look 131 = .ok (.putfield 116, 3) := dk_181 0 116 (dk_at dksX0_look_5 11 rfl rfl)
theorem dX0_look_134 : decode cX0_look 134 = .ok (.aload_n 0, 1) := dk_42 (dk_at dksX0_look_5 14 rfl rfl)
theorem dX0_look_135 : decode cX0_look 135 = .ok (.getfield 104, 3) := dk_180 0 104 (dk_at dksX0_look_5 15 rfl rfl)
theorem dX0_look_138 : decode cX0_look 138 = .ok (.dup, 1) := dk_89 (dk_at dksX0_look_5 18 rfl rfl)
theorem dX0_look_139 : decode cX0_look 139 = .ok (.getfield 119, 3) := dk_180 0 119 (dk_at dksX0_look_5 19 rfl rfl)
theorem dX0_look_142 : decode cX0_look 142 = .ok (.iload 5, 2) := dk_21 5 (dk_at dksX0_look_5 22 rfl rfl)
theorem dX0_look_144 : decode cX0_look 144 = .ok (.bipush 112, 2) := dk_16 112 (dk_at dksX0_look_6 0 rfl rfl)
theorem dX0_look_146 : decode cX0_look 146 = .ok (.if_icmp .ne 7, 3) := dk_160 0 7 (dk_at dksX0_look_6 2 rfl rfl)
theorem dX0_look_149 : decode cX0_look 149 = .ok (.iconst 1, 1) := dk_4 (dk_at dksX0_look_6 5 rfl rfl)
theorem dX0_look_150 : decode cX0_look 150 = .ok (.goto 4, 3) := dk_167 0 4 (dk_at dksX0_look_6 6 rfl rfl)
theorem dX0_look_153 : decode cX0_look 153 = .ok (.iconst 0, 1) := dk_3 (dk_at dksX0_look_6 9 rfl rfl)
theorem dX0_look_154 : decode cX0_look 154 = .ok (.iadd, 1) := dk_96 (dk_at dksX0_look_6 10 rfl rfl)
theorem dX0_look_155 : decode cX0_look 155 = .ok (.putfield 119, 3) := dk_181 0 119 (dk_at dksX0_look_6 11 rfl rfl)
theorem dX0_look_158 : decode cX0_look 158 = .ok (.iload 5, 2) := dk_21 5 (dk_at dksX0_look_6 14 rfl rfl)
theorem dX0_look_160 : decode cX0_look 160 = .ok (.bipush 46, 2) := dk_16 46 (dk_at dksX0_look_6 16 rfl rfl)
theorem dX0_look_162 : decode cX0_look 162 = .ok (.if_icmp .ne 9, 3) := dk_160 0 9 (dk_at dksX0_look_6 18 rfl rfl)
theorem dX0_look_165 : decode cX0_look 165 = .ok (.iload_n 3, 1) := dk_29 (dk_at dksX0_look_6 21 rfl rfl)
theorem dX0_look_166 : decode cX0_look 166 = .ok (.iconst 1, 1) := dk_4 (dk_at dksX0_look_6 22 rfl rfl)
theorem dX0_look_167 : decode cX0_look 167 = .ok (.iadd, 1) := dk_96 (dk_at dksX0_look_6 23 rfl rfl)
theorem dX0_look_168 : decode cX0_look 168 = .ok (.goto 4, 3) := dk_167 0 4 (dk_at dksX0_look_7 0 rfl rfl)
theorem dX0_look_171 : decode cX0_look 171 = .ok (.iconst 0, 1) := dk_3 (dk_at dksX0_look_7 3 rfl rfl)
theorem dX0_look_172 : decode cX0_look 172 = .ok (.istore_n 3, 1) := dk_62 (dk_at dksX0_look_7 4 rfl rfl)
theorem dX0_look_173 : decode cX0_look 173 = .ok (.aload_n 0, 1) := dk_42 (dk_at dksX0_look_7 5 rfl rfl)
theorem dX0_look_174 : decode cX0_look 174 = .ok (.getfield 104, 3) := dk_180 0 104 (dk_at dksX0_look_7 6 rfl rfl)
theorem dX0_look_177 : decode cX0_look 177 = .ok (.aload_n 0, 1) := dk_42 (dk_at dksX0_look_7 9 rfl rfl)
theorem dX0_look_178 : decode cX0_look 178 = .ok (.getfield 104, 3) := dk_180 0 104 (dk_at dksX0_look_7 10 rfl rfl)
theorem dX0_look_181 : decode cX0_look 181 = .ok (.getfield 122, 3) := dk_180 0 122 (dk_at dksX0_look_7 13 rfl rfl)
theorem dX0_look_184 : decode cX0_look 184 = .ok (.iload_n 3, 1) := dk_29 (dk_at dksX0_look_7 16 rfl rfl)
theorem dX0_look_185 : decode cX0_look 185 = .ok (.invokestatic 125, 3) := dk_184 0 125 (dk_at dksX0_look_7 17 rfl rfl)
theorem dX0_look_188 : decode cX0_look 188 = .ok (.putfield 122, 3) := dk_181 0 122 (dk_at dksX0_look_7 20 rfl rfl)
theorem dX0_look_191 : decode cX0_look 191 = .ok (.iinc 4 1, 3) := dk_132 4 1 (dk_at dksX0_look_8 0 rfl rfl)
theorem dX0_look_194 : decode cX0_look 194 = .ok (.goto (-149), 3) := dk_167 255 107 (dk_at dksX0_look_8 3 rfl rfl)
theorem dX0_look_197 : decode cX0_look 197 = .ok (.return_, 1) := dk_177 (dk_at dksX0_look_8 6 rfl rfl)
abbrev cX0_isSheet : ByteArray := prog_1_method_17_code
def yX0_isSheet : MethodName := ⟨RX0, "isSheet", "(II)Z"⟩
def dkwX0_isSheet_5 : List UInt8 := [28, 96, 181, 0, 116, 42, 180, 0, 104, 89, 180, 0, 119, 28, 100, 181, 0, 119, 25, 4, 191]
abbrev dktX0_isSheet_5 : List UInt8 := dkwX0_isSheet_5 ++ []
def dkwX0_isSheet_4 : List UInt8 := [180, 0, 104, 89, 180, 0, 119, 28, 100, 181, 0, 119, 29, 172, 58, 4, 42, 180, 0, 104, 89, 180, 0, 116]
abbrev dktX0_isSheet_4 : List UInt8 := dkwX0_isSheet_4 ++ dktX0_isSheet_5
def dkwX0_isSheet_3 : List UInt8 := [50, 42, 180, 0, 104, 182, 0, 134, 62, 42, 180, 0, 104, 89, 180, 0, 116, 28, 96, 181, 0, 116, 42]
abbrev dktX0_isSheet_3 : List UInt8 := dkwX0_isSheet_3 ++ dktX0_isSheet_4
def dkwX0_isSheet_2 : List UInt8 := [181, 0, 116, 42, 180, 0, 104, 89, 180, 0, 119, 28, 96, 181, 0, 119, 42, 180, 0, 61, 180, 0, 130, 27]
abbrev dktX0_isSheet_2 : List UInt8 := dkwX0_isSheet_2 ++ dktX0_isSheet_3
def dkwX0_isSheet_1 : List UInt8 := [180, 0, 61, 180, 0, 130, 27, 50, 199, 0, 5, 4, 172, 42, 180, 0, 104, 89, 180, 0, 116, 28, 100]
abbrev dktX0_isSheet_1 : List UInt8 := dkwX0_isSheet_1 ++ dktX0_isSheet_2
def dkwX0_isSheet_0 : List UInt8 := [28, 42, 180, 0, 98, 163, 0, 14, 28, 42, 180, 0, 104, 180, 0, 116, 164, 0, 5, 3, 172, 42]
abbrev dktX0_isSheet_0 : List UInt8 := dkwX0_isSheet_0 ++ dktX0_isSheet_1
theorem dksX0_isSheet_0 : cX0_isSheet.data.toList.drop 0 = dktX0_isSheet_0 := by decide +kernel
theorem dksX0_isSheet_1 : cX0_isSheet.data.toList.drop 22 = dktX0_isSheet_1 := dk_seg dksX0_isSheet_0 22 rfl rfl
theorem dksX0_isSheet_2 : cX0_isSheet.data.toList.drop 45 = dktX0_isSheet_2 := dk_seg dksX0_isSheet_1 23 rfl rfl
theorem dksX0_isSheet_3 : cX0_isSheet.data.toList.drop 69 = dktX0_isSheet_3 := dk_seg dksX0_isSheet_2 24 rfl rfl
theorem dksX0_isSheet_4 : cX0_isSheet.data.toList.drop 92 = dktX0_isSheet_4 := dk_seg dksX0_isSheet_3 23 rfl rfl
theorem dksX0_isSheet_5 : cX0_isSheet.data.toList.drop 116 = dktX0_isSheet_5 := dk_seg dksX0_isSheet_4 24 rfl rfl
theorem dX0_isSheet_0 : decode cX0_isSheet 0 = .ok (.iload_n 2, 1) := dk_28 (dk_at dksX0_isSheet_0 0 rfl rfl)
theorem dX0_isSheet_1 : decode cX0_isSheet 1 = .ok (.aload_n 0, 1) := dk_42 (dk_at dksX0_isSheet_0 1 rfl rfl)
theorem dX0_isSheet_2 : decode cX0_isSheet 2 = .ok (.getfield 98, 3) := dk_180 0 98 (dk_at dksX0_isSheet_0 2 rfl rfl)
theorem dX0_isSheet_5 : decode cX0_isSheet 5 = .ok (.if_icmp .gt 14, 3) := dk_163 0 14 (dk_at dksX0_isSheet_0 5 rfl rfl)
theorem dX0_isSheet_8 : decode cX0_isSheet 8 = .ok (.iload_n 2, 1) := dk_28 (dk_at dksX0_isSheet_0 8 rfl rfl)
theorem dX0_isSheet_9 : decode cX0_isSheet 9 = .ok (.aload_n 0, 1) := dk_42 (dk_at dksX0_isSheet_0 9 rfl rfl)
theorem dX0_isSheet_10 : decode cX0_isSheet 10 = .ok (.getfield 104, 3) := dk_180 0 104 (dk_at dksX0_isSheet_0 10 rfl rfl)
theorem dX0_isSheet_13 : decode cX0_isSheet 13 = .ok (.getfield 116, 3) := dk_180 0 116 (dk_at dksX0_isSheet_0 13 rfl rfl)
theorem dX0_isSheet_16 : decode cX0_isSheet 16 = .ok (.if_icmp .le 5, 3) := dk_164 0 5 (dk_at dksX0_isSheet_0 16 rfl rfl)
theorem dX0_isSheet_19 : decode cX0_isSheet 19 = .ok (.iconst 0, 1) := dk_3 (dk_at dksX0_isSheet_0 19 rfl rfl)
theorem dX0_isSheet_20 : decode cX0_isSheet 20 = .ok (.ireturn, 1) := dk_172 (dk_at dksX0_isSheet_0 20 rfl rfl)
theorem dX0_isSheet_21 : decode cX0_isSheet 21 = .ok (.aload_n 0, 1) := dk_42 (dk_at dksX0_isSheet_0 21 rfl rfl)
theorem dX0_isSheet_22 : decode cX0_isSheet 22 = .ok (.getfield 61, 3) := dk_180 0 61 (dk_at dksX0_isSheet_1 0 rfl rfl)
theorem dX0_isSheet_25 : decode cX0_isSheet 25 = .ok (.getfield 130, 3) := dk_180 0 130 (dk_at dksX0_isSheet_1 3 rfl rfl)
theorem dX0_isSheet_28 : decode cX0_isSheet 28 = .ok (.iload_n 1, 1) := dk_27 (dk_at dksX0_isSheet_1 6 rfl rfl)
theorem dX0_isSheet_29 : decode cX0_isSheet 29 = .ok (.aaload, 1) := dk_50 (dk_at dksX0_isSheet_1 7 rfl rfl)
theorem dX0_isSheet_30 : decode cX0_isSheet 30 = .ok (.ifnonnull 5, 3) := dk_199 0 5 (dk_at dksX0_isSheet_1 8 rfl rfl)
theorem dX0_isSheet_33 : decode cX0_isSheet 33 = .ok (.iconst 1, 1) := dk_4 (dk_at dksX0_isSheet_1 11 rfl rfl)
theorem dX0_isSheet_34 : decode cX0_isSheet 34 = .ok (.ireturn, 1) := dk_172 (dk_at dksX0_isSheet_1 12 rfl rfl)
theorem dX0_isSheet_35 : decode cX0_isSheet 35 = .ok (.aload_n 0, 1) := dk_42 (dk_at dksX0_isSheet_1 13 rfl rfl)
theorem dX0_isSheet_36 : decode cX0_isSheet 36 = .ok (.getfield 104, 3) := dk_180 0 104 (dk_at dksX0_isSheet_1 14 rfl rfl)
theorem dX0_isSheet_39 : decode cX0_isSheet 39 = .ok (.dup, 1) := dk_89 (dk_at dksX0_isSheet_1 17 rfl rfl)
theorem dX0_isSheet_40 : decode cX0_isSheet 40 = .ok (.getfield 116, 3) := dk_180 0 116 (dk_at dksX0_isSheet_1 18 rfl rfl)
theorem dX0_isSheet_43 : decode cX0_isSheet 43 = .ok (.iload_n 2, 1) := dk_28 (dk_at dksX0_isSheet_1 21 rfl rfl)
theorem dX0_isSheet_44 : decode cX0_isSheet 44 = .ok (.isub, 1) := dk_100 (dk_at dksX0_isSheet_1 22 rfl rfl)
theorem dX0_isSheet_45 : decode cX0_isSheet 45 = .ok (.putfield 116, 3) := dk_181 0 116 (dk_at dksX0_isSheet_2 0 rfl rfl)
theorem dX0_isSheet_48 : decode cX0_isSheet 48 = .ok (.aload_n 0, 1) := dk_42 (dk_at dksX0_isSheet_2 3 rfl rfl)
theorem dX0_isSheet_49 : decode cX0_isSheet 49 = .ok (.getfield 104, 3) := dk_180 0 104 (dk_at dksX0_isSheet_2 4 rfl rfl)
theorem dX0_isSheet_52 : decode cX0_isSheet 52 = .ok (.dup, 1) := dk_89 (dk_at dksX0_isSheet_2 7 rfl rfl)
theorem dX0_isSheet_53 : decode cX0_isSheet 53 = .ok (.getfield 119, 3) := dk_180 0 119 (dk_at dksX0_isSheet_2 8 rfl rfl)
theorem dX0_isSheet_56 : decode cX0_isSheet 56 = .ok (.iload_n 2, 1) := dk_28 (dk_at dksX0_isSheet_2 11 rfl rfl)
theorem dX0_isSheet_57 : decode cX0_isSheet 57 = .ok (.iadd, 1) := dk_96 (dk_at dksX0_isSheet_2 12 rfl rfl)
theorem dX0_isSheet_58 : decode cX0_isSheet 58 = .ok (.putfield 119, 3) := dk_181 0 119 (dk_at dksX0_isSheet_2 13 rfl rfl)
theorem dX0_isSheet_61 : decode cX0_isSheet 61 = .ok (.aload_n 0, 1) := dk_42 (dk_at dksX0_isSheet_2 16 rfl rfl)
theorem dX0_isSheet_62 : decode cX0_isSheet 62 = .ok (.getfield 61, 3) := dk_180 0 61 (dk_at dksX0_isSheet_2 17 rfl rfl)
theorem dX0_isSheet_65 : decode cX0_isSheet 65 = .ok (.getfield 130, 3) := dk_180 0 130 (dk_at dksX0_isSheet_2 20 rfl rfl)
theorem dX0_isSheet_68 : decode cX0_isSheet 68 = .ok (.iload_n 1, 1) := dk_27 (dk_at dksX0_isSheet_2 23 rfl rfl)
theorem dX0_isSheet_69 : decode cX0_isSheet 69 = .ok (.aaload, 1) := dk_50 (dk_at dksX0_isSheet_3 0 rfl rfl)
theorem dX0_isSheet_70 : decode cX0_isSheet 70 = .ok (.aload_n 0, 1) := dk_42 (dk_at dksX0_isSheet_3 1 rfl rfl)
theorem dX0_isSheet_71 : decode cX0_isSheet 71 = .ok (.getfield 104, 3) := dk_180 0 104 (dk_at dksX0_isSheet_3 2 rfl rfl)
theorem dX0_isSheet_74 : decode cX0_isSheet 74 = .ok (.invokevirtual 134, 3) := dk_182 0 134 (dk_at dksX0_isSheet_3 5 rfl rfl)
theorem dX0_isSheet_77 : decode cX0_isSheet 77 = .ok (.istore_n 3, 1) := dk_62 (dk_at dksX0_isSheet_3 8 rfl rfl)
theorem dX0_isSheet_78 : decode cX0_isSheet 78 = .ok (.aload_n 0, 1) := dk_42 (dk_at dksX0_isSheet_3 9 rfl rfl)
theorem dX0_isSheet_79 : decode cX0_isSheet 79 = .ok (.getfield 104, 3) := dk_180 0 104 (dk_at dksX0_isSheet_3 10 rfl rfl)
theorem dX0_isSheet_82 : decode cX0_isSheet 82 = .ok (.dup, 1) := dk_89 (dk_at dksX0_isSheet_3 13 rfl rfl)
theorem dX0_isSheet_83 : decode cX0_isSheet 83 = .ok (.getfield 116, 3) := dk_180 0 116 (dk_at dksX0_isSheet_3 14 rfl rfl)
theorem dX0_isSheet_86 : decode cX0_isSheet 86 = .ok (.iload_n 2, 1) := dk_28 (dk_at dksX0_isSheet_3 17 rfl rfl)
theorem dX0_isSheet_87 : decode cX0_isSheet 87 = .ok (.iadd, 1) := dk_96 (dk_at dksX0_isSheet_3 18 rfl rfl)
theorem dX0_isSheet_88 : decode cX0_isSheet 88 = .ok (.putfield 116, 3) := dk_181 0 116 (dk_at dksX0_isSheet_3 19 rfl rfl)
theorem dX0_isSheet_91 : decode cX0_isSheet 91 = .ok (.aload_n 0, 1) := dk_42 (dk_at dksX0_isSheet_3 22 rfl rfl)
theorem dX0_isSheet_92 : decode cX0_isSheet 92 = .ok (.getfield 104, 3) := dk_180 0 104 (dk_at dksX0_isSheet_4 0 rfl rfl)
theorem dX0_isSheet_95 : decode cX0_isSheet 95 = .ok (.dup, 1) := dk_89 (dk_at dksX0_isSheet_4 3 rfl rfl)
theorem dX0_isSheet_96 : decode cX0_isSheet 96 = .ok (.getfield 119, 3) := dk_180 0 119 (dk_at dksX0_isSheet_4 4 rfl rfl)
theorem dX0_isSheet_99 : decode cX0_isSheet 99 = .ok (.iload_n 2, 1) := dk_28 (dk_at dksX0_isSheet_4 7 rfl rfl)
theorem dX0_isSheet_100 : decode cX0_isSheet 100 = .ok (.isub, 1) := dk_100 (dk_at dksX0_isSheet_4 8 rfl rfl)
theorem dX0_isSheet_101 : decode cX0_isSheet 101 = .ok (.putfield 119, 3) := dk_181 0 119 (dk_at dksX0_isSheet_4 9 rfl rfl)
theorem dX0_isSheet_104 : decode cX0_isSheet 104 = .ok (.iload_n 3, 1) := dk_29 (dk_at dksX0_isSheet_4 12 rfl rfl)
theorem dX0_isSheet_105 : decode cX0_isSheet 105 = .ok (.ireturn, 1) := dk_172 (dk_at dksX0_isSheet_4 13 rfl rfl)
theorem dX0_isSheet_106 : decode cX0_isSheet 106 = .ok (.astore 4, 2) := dk_58 4 (dk_at dksX0_isSheet_4 14 rfl rfl)
theorem dX0_isSheet_108 : decode cX0_isSheet 108 = .ok (.aload_n 0, 1) := dk_42 (dk_at dksX0_isSheet_4 16 rfl rfl)
theorem dX0_isSheet_109 : decode cX0_isSheet 109 = .ok (.getfield 104, 3) := dk_180 0 104 (dk_at dksX0_isSheet_4 17 rfl rfl)
theorem dX0_isSheet_112 : decode cX0_isSheet 112 = .ok (.dup, 1) := dk_89 (dk_at dksX0_isSheet_4 20 rfl rfl)
theorem dX0_isSheet_113 : decode cX0_isSheet 113 = .ok (.getfield 116, 3) := dk_180 0 116 (dk_at dksX0_isSheet_4 21 rfl rfl)
theorem dX0_isSheet_116 : decode cX0_isSheet 116 = .ok (.iload_n 2, 1) := dk_28 (dk_at dksX0_isSheet_5 0 rfl rfl)
theorem dX0_isSheet_117 : decode cX0_isSheet 117 = .ok (.iadd, 1) := dk_96 (dk_at dksX0_isSheet_5 1 rfl rfl)
theorem dX0_isSheet_118 : decode cX0_isSheet 118 = .ok (.putfield 116, 3) := dk_181 0 116 (dk_at dksX0_isSheet_5 2 rfl rfl)
theorem dX0_isSheet_121 : decode cX0_isSheet 121 = .ok (.aload_n 0, 1) := dk_42 (dk_at dksX0_isSheet_5 5 rfl rfl)
theorem dX0_isSheet_122 : decode cX0_isSheet 122 = .ok (.getfield 104, 3) := dk_180 0 104 (dk_at dksX0_isSheet_5 6 rfl rfl)
theorem dX0_isSheet_125 : decode cX0_isSheet 125 = .ok (.dup, 1) := dk_89 (dk_at dksX0_isSheet_5 9 rfl rfl)
theorem dX0_isSheet_126 : decode cX0_isSheet 126 = .ok (.getfield 119, 3) := dk_180 0 119 (dk_at dksX0_isSheet_5 10 rfl rfl)
theorem dX0_isSheet_129 : decode cX0_isSheet 129 = .ok (.iload_n 2, 1) := dk_28 (dk_at dksX0_isSheet_5 13 rfl rfl)
theorem dX0_isSheet_130 : decode cX0_isSheet 130 = .ok (.isub, 1) := dk_100 (dk_at dksX0_isSheet_5 14 rfl rfl)
theorem dX0_isSheet_131 : decode cX0_isSheet 131 = .ok (.putfield 119, 3) := dk_181 0 119 (dk_at dksX0_isSheet_5 15 rfl rfl)
theorem dX0_isSheet_134 : decode cX0_isSheet 134 = .ok (.aload 4, 2) := dk_25 4 (dk_at dksX0_isSheet_5 18 rfl rfl)
theorem dX0_isSheet_136 : decode cX0_isSheet 136 = .ok (.athrow, 1) := dk_191 (dk_at dksX0_isSheet_5 20 rfl rfl)
abbrev cX0_worth : ByteArray := prog_1_method_22_code
def yX0_worth : MethodName := ⟨RX0, "worth", "()I"⟩
def dkwX0_worth_0 : List UInt8 := [42, 182, 0, 169, 42, 180, 0, 153, 3, 46, 172]
abbrev dktX0_worth_0 : List UInt8 := dkwX0_worth_0 ++ []
theorem dksX0_worth_0 : cX0_worth.data.toList.drop 0 = dktX0_worth_0 := by decide +kernel
theorem dX0_worth_0 : decode cX0_worth 0 = .ok (.aload_n 0, 1) := dk_42 (dk_at dksX0_worth_0 0 rfl rfl)
theorem dX0_worth_1 : decode cX0_worth 1 = .ok (.invokevirtual 169, 3) := dk_182 0 169 (dk_at dksX0_worth_0 1 rfl rfl)
theorem dX0_worth_4 : decode cX0_worth 4 = .ok (.aload_n 0, 1) := dk_42 (dk_at dksX0_worth_0 4 rfl rfl)
theorem dX0_worth_5 : decode cX0_worth 5 = .ok (.getfield 153, 3) := dk_180 0 153 (dk_at dksX0_worth_0 5 rfl rfl)
theorem dX0_worth_8 : decode cX0_worth 8 = .ok (.iconst 0, 1) := dk_3 (dk_at dksX0_worth_0 8 rfl rfl)
theorem dX0_worth_9 : decode cX0_worth 9 = .ok (.iaload, 1) := dk_46 (dk_at dksX0_worth_0 9 rfl rfl)
theorem dX0_worth_10 : decode cX0_worth 10 = .ok (.ireturn, 1) := dk_172 (dk_at dksX0_worth_0 10 rfl rfl)
abbrev cX0_clip : ByteArray := prog_1_method_20_code
def yX0_clip : MethodName := ⟨RX0, "clip", "()V"⟩
def dkwX0_clip_7 : List UInt8 := [132, 3, 1, 167, 255, 218, 132, 2, 1, 167, 255, 173, 132, 1, 255, 167, 255, 126, 177]
abbrev dktX0_clip_7 : List UInt8 := dkwX0_clip_7 ++ []
def dkwX0_clip_6 : List UInt8 := [180, 0, 116, 163, 0, 25, 42, 28, 29, 182, 0, 150, 153, 0, 10, 42, 27, 28, 29, 182, 0, 162]
abbrev dktX0_clip_6 : List UInt8 := dkwX0_clip_6 ++ dktX0_clip_7
def dkwX0_clip_5 : List UInt8 := [180, 0, 140, 28, 46, 182, 0, 146, 3, 62, 29, 42, 180, 0, 98, 163, 0, 36, 29, 42, 180, 0, 104]
abbrev dktX0_clip_5 : List UInt8 := dkwX0_clip_5 ++ dktX0_clip_6
def dkwX0_clip_4 : List UInt8 := [180, 0, 69, 162, 0, 78, 42, 27, 28, 182, 0, 143, 154, 0, 6, 167, 0, 60, 42, 27, 42, 180, 0, 61]
abbrev dktX0_clip_4 : List UInt8 := dkwX0_clip_4 ++ dktX0_clip_5
def dkwX0_clip_3 : List UInt8 := [27, 42, 180, 0, 156, 27, 4, 96, 46, 79, 42, 180, 0, 159, 27, 2, 79, 3, 61, 28, 42, 180, 0, 61]
abbrev dktX0_clip_3 : List UInt8 := dkwX0_clip_3 ++ dktX0_clip_4
def dkwX0_clip_2 : List UInt8 := [100, 60, 27, 155, 0, 132, 42, 180, 0, 153, 27, 42, 180, 0, 153, 27, 4, 96, 46, 79, 42, 180, 0, 156]
abbrev dktX0_clip_2 : List UInt8 := dkwX0_clip_2 ++ dktX0_clip_3
def dkwX0_clip_1 : List UInt8 := [180, 0, 156, 42, 180, 0, 95, 3, 79, 42, 180, 0, 159, 42, 180, 0, 95, 2, 79, 42, 180, 0, 95, 4]
abbrev dktX0_clip_1 : List UInt8 := dkwX0_clip_1 ++ dktX0_clip_2
def dkwX0_clip_0 : List UInt8 := [42, 180, 0, 65, 153, 0, 4, 177, 42, 4, 181, 0, 65, 42, 180, 0, 153, 42, 180, 0, 95, 3, 79, 42]
abbrev dktX0_clip_0 : List UInt8 := dkwX0_clip_0 ++ dktX0_clip_1
theorem dksX0_clip_0 : cX0_clip.data.toList.drop 0 = dktX0_clip_0 := by decide +kernel
theorem dksX0_clip_1 : cX0_clip.data.toList.drop 24 = dktX0_clip_1 := dk_seg dksX0_clip_0 24 rfl rfl
theorem dksX0_clip_2 : cX0_clip.data.toList.drop 48 = dktX0_clip_2 := dk_seg dksX0_clip_1 24 rfl rfl
theorem dksX0_clip_3 : cX0_clip.data.toList.drop 72 = dktX0_clip_3 := dk_seg dksX0_clip_2 24 rfl rfl
theorem dksX0_clip_4 : cX0_clip.data.toList.drop 96 = dktX0_clip_4 := dk_seg dksX0_clip_3 24 rfl rfl
theorem dksX0_clip_5 : cX0_clip.data.toList.drop 120 = dktX0_clip_5 := dk_seg dksX0_clip_4 24 rfl rfl
theorem dksX0_clip_6 : cX0_clip.data.toList.drop 143 = dktX0_clip_6 := dk_seg dksX0_clip_5 23 rfl rfl
theorem dksX0_clip_7 : cX0_clip.data.toList.drop 165 = dktX0_clip_7 := dk_seg dksX0_clip_6 22 rfl rfl
theorem dX0_clip_0 : decode cX0_clip 0 = .ok (.aload_n 0, 1) := dk_42 (dk_at dksX0_clip_0 0 rfl rfl)
theorem dX0_clip_1 : decode cX0_clip 1 = .ok (.getfield 65, 3) := dk_180 0 65 (dk_at dksX0_clip_0 1 rfl rfl)
theorem dX0_clip_4 : decode cX0_clip 4 = .ok (.ifCond .eq 4, 3) := dk_153 0 4 (dk_at dksX0_clip_0 4 rfl rfl)
theorem dX0_clip_7 : decode cX0_clip 7 = .ok (.return_, 1) := dk_177 (dk_at dksX0_clip_0 7 rfl rfl)
theorem dX0_clip_8 : decode cX0_clip 8 = .ok (.aload_n 0, 1) := dk_42 (dk_at dksX0_clip_0 8 rfl rfl)
theorem dX0_clip_9 : decode cX0_clip 9 = .ok (.iconst 1, 1) := dk_4 (dk_at dksX0_clip_0 9 rfl rfl)
theorem dX0_clip_10 : decode cX0_clip 10 = .ok (.putfield 65, 3) := dk_181 0 65 (dk_at dksX0_clip_0 10 rfl rfl)
theorem dX0_clip_13 : decode cX0_clip 13 = .ok (.aload_n 0, 1) := dk_42 (dk_at dksX0_clip_0 13 rfl rfl)
theorem dX0_clip_14 : decode cX0_clip 14 = .ok (.getfield 153, 3) := dk_180 0 153 (dk_at dksX0_clip_0 14 rfl rfl)
theorem dX0_clip_17 : decode cX0_clip 17 = .ok (.aload_n 0, 1) := dk_42 (dk_at dksX0_clip_0 17 rfl rfl)
theorem dX0_clip_18 : decode cX0_clip 18 = .ok (.getfield 95, 3) := dk_180 0 95 (dk_at dksX0_clip_0 18 rfl rfl)
theorem dX0_clip_21 : decode cX0_clip 21 = .ok (.iconst 0, 1) := dk_3 (dk_at dksX0_clip_0 21 rfl rfl)
theorem dX0_clip_22 : decode cX0_clip 22 = .ok (.iastore, 1) := dk_79 (dk_at dksX0_clip_0 22 rfl rfl)
theorem dX0_clip_23 : decode cX0_clip 23 = .ok (.aload_n 0, 1) := dk_42 (dk_at dksX0_clip_0 23 rfl rfl)
theorem dX0_clip_24 : decode cX0_clip 24 = .ok (.getfield 156, 3) := dk_180 0 156 (dk_at dksX0_clip_1 0 rfl rfl)
theorem dX0_clip_27 : decode cX0_clip 27 = .ok (.aload_n 0, 1) := dk_42 (dk_at dksX0_clip_1 3 rfl rfl)
theorem dX0_clip_28 : decode cX0_clip 28 = .ok (.getfield 95, 3) := dk_180 0 95 (dk_at dksX0_clip_1 4 rfl rfl)
theorem dX0_clip_31 : decode cX0_clip 31 = .ok (.iconst 0, 1) := dk_3 (dk_at dksX0_clip_1 7 rfl rfl)
theorem dX0_clip_32 : decode cX0_clip 32 = .ok (.iastore, 1) := dk_79 (dk_at dksX0_clip_1 8 rfl rfl)
theorem dX0_clip_33 : decode cX0_clip 33 = .ok (.aload_n 0, 1) := dk_42 (dk_at dksX0_clip_1 9 rfl rfl)
theorem dX0_clip_34 : decode cX0_clip 34 = .ok (.getfield 159, 3) := dk_180 0 159 (dk_at dksX0_clip_1 10 rfl rfl)
theorem dX0_clip_37 : decode cX0_clip 37 = .ok (.aload_n 0, 1) := dk_42 (dk_at dksX0_clip_1 13 rfl rfl)
theorem dX0_clip_38 : decode cX0_clip 38 = .ok (.getfield 95, 3) := dk_180 0 95 (dk_at dksX0_clip_1 14 rfl rfl)
theorem dX0_clip_41 : decode cX0_clip 41 = .ok (.iconst (-1), 1) := dk_2 (dk_at dksX0_clip_1 17 rfl rfl)
theorem dX0_clip_42 : decode cX0_clip 42 = .ok (.iastore, 1) := dk_79 (dk_at dksX0_clip_1 18 rfl rfl)
theorem dX0_clip_43 : decode cX0_clip 43 = .ok (.aload_n 0, 1) := dk_42 (dk_at dksX0_clip_1 19 rfl rfl)
theorem dX0_clip_44 : decode cX0_clip 44 = .ok (.getfield 95, 3) := dk_180 0 95 (dk_at dksX0_clip_1 20 rfl rfl)
theorem dX0_clip_47 : decode cX0_clip 47 = .ok (.iconst 1, 1) := dk_4 (dk_at dksX0_clip_1 23 rfl rfl)
theorem dX0_clip_48 : decode cX0_clip 48 = .ok (.isub, 1) := dk_100 (dk_at dksX0_clip_2 0 rfl rfl)
theorem dX0_clip_49 : decode cX0_clip 49 = .ok (.istore_n 1, 1) := dk_60 (dk_at dksX0_clip_2 1 rfl rfl)
theorem dX0_clip_50 : decode cX0_clip 50 = .ok (.iload_n 1, 1) := dk_27 (dk_at dksX0_clip_2 2 rfl rfl)
theorem dX0_clip_51 : decode cX0_clip 51 = .ok (.ifCond .lt 132, 3) := dk_155 0 132 (dk_at dksX0_clip_2 3 rfl rfl)
theorem dX0_clip_54 : decode cX0_clip 54 = .ok (.aload_n 0, 1) := dk_42 (dk_at dksX0_clip_2 6 rfl rfl)
theorem dX0_clip_55 : decode cX0_clip 55 = .ok (.getfield 153, 3) := dk_180 0 153 (dk_at dksX0_clip_2 7 rfl rfl)
theorem dX0_clip_58 : decode cX0_clip 58 = .ok (.iload_n 1, 1) := dk_27 (dk_at dksX0_clip_2 10 rfl rfl)
theorem dX0_clip_59 : decode cX0_clip 59 = .ok (.aload_n 0, 1) := dk_42 (dk_at dksX0_clip_2 11 rfl rfl)
theorem dX0_clip_60 : decode cX0_clip 60 = .ok (.getfield 153, 3) := dk_180 0 153 (dk_at dksX0_clip_2 12 rfl rfl)
theorem dX0_clip_63 : decode cX0_clip 63 = .ok (.iload_n 1, 1) := dk_27 (dk_at dksX0_clip_2 15 rfl rfl)
theorem dX0_clip_64 : decode cX0_clip 64 = .ok (.iconst 1, 1) := dk_4 (dk_at dksX0_clip_2 16 rfl rfl)
theorem dX0_clip_65 : decode cX0_clip 65 = .ok (.iadd, 1) := dk_96 (dk_at dksX0_clip_2 17 rfl rfl)
theorem dX0_clip_66 : decode cX0_clip 66 = .ok (.iaload, 1) := dk_46 (dk_at dksX0_clip_2 18 rfl rfl)
theorem dX0_clip_67 : decode cX0_clip 67 = .ok (.iastore, 1) := dk_79 (dk_at dksX0_clip_2 19 rfl rfl)
theorem dX0_clip_68 : decode cX0_clip 68 = .ok (.aload_n 0, 1) := dk_42 (dk_at dksX0_clip_2 20 rfl rfl)
theorem dX0_clip_69 : decode cX0_clip 69 = .ok (.getfield 156, 3) := dk_180 0 156 (dk_at dksX0_clip_2 21 rfl rfl)
theorem dX0_clip_72 : decode cX0_clip 72 = .ok (.iload_n 1, 1) := dk_27 (dk_at dksX0_clip_3 0 rfl rfl)
theorem dX0_clip_73 : decode cX0_clip 73 = .ok (.aload_n 0, 1) := dk_42 (dk_at dksX0_clip_3 1 rfl rfl)
theorem dX0_clip_74 : decode cX0_clip 74 = .ok (.getfield 156, 3) := dk_180 0 156 (dk_at dksX0_clip_3 2 rfl rfl)
theorem dX0_clip_77 : decode cX0_clip 77 = .ok (.iload_n 1, 1) := dk_27 (dk_at dksX0_clip_3 5 rfl rfl)
theorem dX0_clip_78 : decode cX0_clip 78 = .ok (.iconst 1, 1) := dk_4 (dk_at dksX0_clip_3 6 rfl rfl)
theorem dX0_clip_79 : decode cX0_clip 79 = .ok (.iadd, 1) := dk_96 (dk_at dksX0_clip_3 7 rfl rfl)
theorem dX0_clip_80 : decode cX0_clip 80 = .ok (.iaload, 1) := dk_46 (dk_at dksX0_clip_3 8 rfl rfl)
theorem dX0_clip_81 : decode cX0_clip 81 = .ok (.iastore, 1) := dk_79 (dk_at dksX0_clip_3 9 rfl rfl)
theorem dX0_clip_82 : decode cX0_clip 82 = .ok (.aload_n 0, 1) := dk_42 (dk_at dksX0_clip_3 10 rfl rfl)
theorem dX0_clip_83 : decode cX0_clip 83 = .ok (.getfield 159, 3) := dk_180 0 159 (dk_at dksX0_clip_3 11 rfl rfl)
theorem dX0_clip_86 : decode cX0_clip 86 = .ok (.iload_n 1, 1) := dk_27 (dk_at dksX0_clip_3 14 rfl rfl)
theorem dX0_clip_87 : decode cX0_clip 87 = .ok (.iconst (-1), 1) := dk_2 (dk_at dksX0_clip_3 15 rfl rfl)
theorem dX0_clip_88 : decode cX0_clip 88 = .ok (.iastore, 1) := dk_79 (dk_at dksX0_clip_3 16 rfl rfl)
theorem dX0_clip_89 : decode cX0_clip 89 = .ok (.iconst 0, 1) := dk_3 (dk_at dksX0_clip_3 17 rfl rfl)
theorem dX0_clip_90 : decode cX0_clip 90 = .ok (.istore_n 2, 1) := dk_61 (dk_at dksX0_clip_3 18 rfl rfl)
theorem dX0_clip_91 : decode cX0_clip 91 = .ok (.iload_n 2, 1) := dk_28 (dk_at dksX0_clip_3 19 rfl rfl)
theorem dX0_clip_92 : decode cX0_clip 92 = .ok (.aload_n 0, 1) := dk_42 (dk_at dksX0_clip_3 20 rfl rfl)
theorem dX0_clip_93 : decode cX0_clip 93 = .ok (.getfield 61, 3) := dk_180 0 61 (dk_at dksX0_clip_3 21 rfl rfl)
theorem dX0_clip_96 : decode cX0_clip 96 = .ok (.getfield 69, 3) := dk_180 0 69 (dk_at dksX0_clip_4 0 rfl rfl)
theorem dX0_clip_99 : decode cX0_clip 99 = .ok (.if_icmp .ge 78, 3) := dk_162 0 78 (dk_at dksX0_clip_4 3 rfl rfl)
theorem dX0_clip_102 : decode cX0_clip 102 = .ok (.aload_n 0, 1) := dk_42 (dk_at dksX0_clip_4 6 rfl rfl)
theorem dX0_clip_103 : decode cX0_clip 103 = .ok (.iload_n 1, 1) := dk_27 (dk_at dksX0_clip_4 7 rfl rfl)
theorem dX0_clip_104 : decode cX0_clip 104 = .ok (.iload_n 2, 1) := dk_28 (dk_at dksX0_clip_4 8 rfl rfl)
theorem dX0_clip_105 : decode cX0_clip 105 = .ok (.invokevirtual 143, 3) := dk_182 0 143 (dk_at dksX0_clip_4 9 rfl rfl)
theorem dX0_clip_108 : decode cX0_clip 108 = .ok (.ifCond .ne 6, 3) := dk_154 0 6 (dk_at dksX0_clip_4 12 rfl rfl)
theorem dX0_clip_111 : decode cX0_clip 111 = .ok (.goto 60, 3) := dk_167 0 60 (dk_at dksX0_clip_4 15 rfl rfl)
theorem dX0_clip_114 : decode cX0_clip 114 = .ok (.aload_n 0, 1) := dk_42 (dk_at dksX0_clip_4 18 rfl rfl)
theorem dX0_clip_115 : decode cX0_clip 115 = .ok (.iload_n 1, 1) := dk_27 (dk_at dksX0_clip_4 19 rfl rfl)
theorem dX0_clip_116 : decode cX0_clip 116 = .ok (.aload_n 0, 1) := dk_42 (dk_at dksX0_clip_4 20 rfl rfl)
theorem dX0_clip_117 : decode cX0_clip 117 = .ok (.getfield 61, 3) := dk_180 0 61 (dk_at dksX0_clip_4 21 rfl rfl)
theorem dX0_clip_120 : decode cX0_clip 120 = .ok (.getfield 140, 3) := dk_180 0 140 (dk_at dksX0_clip_5 0 rfl rfl)
theorem dX0_clip_123 : decode cX0_clip 123 = .ok (.iload_n 2, 1) := dk_28 (dk_at dksX0_clip_5 3 rfl rfl)
theorem dX0_clip_124 : decode cX0_clip 124 = .ok (.iaload, 1) := dk_46 (dk_at dksX0_clip_5 4 rfl rfl)
theorem dX0_clip_125 : decode cX0_clip 125 = .ok (.invokevirtual 146, 3) := dk_182 0 146 (dk_at dksX0_clip_5 5 rfl rfl)
theorem dX0_clip_128 : decode cX0_clip 128 = .ok (.iconst 0, 1) := dk_3 (dk_at dksX0_clip_5 8 rfl rfl)
theorem dX0_clip_129 : decode cX0_clip 129 = .ok (.istore_n 3, 1) := dk_62 (dk_at dksX0_clip_5 9 rfl rfl)
theorem dX0_clip_130 : decode cX0_clip 130 = .ok (.iload_n 3, 1) := dk_29 (dk_at dksX0_clip_5 10 rfl rfl)
theorem dX0_clip_131 : decode cX0_clip 131 = .ok (.aload_n 0, 1) := dk_42 (dk_at dksX0_clip_5 11 rfl rfl)
theorem dX0_clip_132 : decode cX0_clip 132 = .ok (.getfield 98, 3) := dk_180 0 98 (dk_at dksX0_clip_5 12 rfl rfl)
theorem dX0_clip_135 : decode cX0_clip 135 = .ok (.if_icmp .gt 36, 3) := dk_163 0 36 (dk_at dksX0_clip_5 15 rfl rfl)
theorem dX0_clip_138 : decode cX0_clip 138 = .ok (.iload_n 3, 1) := dk_29 (dk_at dksX0_clip_5 18 rfl rfl)
theorem dX0_clip_139 : decode cX0_clip 139 = .ok (.aload_n 0, 1) := dk_42 (dk_at dksX0_clip_5 19 rfl rfl)
theorem dX0_clip_140 : decode cX0_clip 140 = .ok (.getfield 104, 3) := dk_180 0 104 (dk_at dksX0_clip_5 20 rfl rfl)
theorem dX0_clip_143 : decode cX0_clip 143 = .ok (.getfield 116, 3) := dk_180 0 116 (dk_at dksX0_clip_6 0 rfl rfl)
theorem dX0_clip_146 : decode cX0_clip 146 = .ok (.if_icmp .gt 25, 3) := dk_163 0 25 (dk_at dksX0_clip_6 3 rfl rfl)
theorem dX0_clip_149 : decode cX0_clip 149 = .ok (.aload_n 0, 1) := dk_42 (dk_at dksX0_clip_6 6 rfl rfl)
theorem dX0_clip_150 : decode cX0_clip 150 = .ok (.iload_n 2, 1) := dk_28 (dk_at dksX0_clip_6 7 rfl rfl)
theorem dX0_clip_151 : decode cX0_clip 151 = .ok (.iload_n 3, 1) := dk_29 (dk_at dksX0_clip_6 8 rfl rfl)
theorem dX0_clip_152 : decode cX0_clip 152 = .ok (.invokevirtual 150, 3) := dk_182 0 150 (dk_at dksX0_clip_6 9 rfl rfl)
theorem dX0_clip_155 : decode cX0_clip 155 = .ok (.ifCond .eq 10, 3) := dk_153 0 10 (dk_at dksX0_clip_6 12 rfl rfl)
theorem dX0_clip_158 : decode cX0_clip 158 = .ok (.aload_n 0, 1) := dk_42 (dk_at dksX0_clip_6 15 rfl rfl)
theorem dX0_clip_159 : decode cX0_clip 159 = .ok (.iload_n 1, 1) := dk_27 (dk_at dksX0_clip_6 16 rfl rfl)
theorem dX0_clip_160 : decode cX0_clip 160 = .ok (.iload_n 2, 1) := dk_28 (dk_at dksX0_clip_6 17 rfl rfl)
theorem dX0_clip_161 : decode cX0_clip 161 = .ok (.iload_n 3, 1) := dk_29 (dk_at dksX0_clip_6 18 rfl rfl)
theorem dX0_clip_162 : decode cX0_clip 162 = .ok (.invokevirtual 162, 3) := dk_182 0 162 (dk_at dksX0_clip_6 19 rfl rfl)
theorem dX0_clip_165 : decode cX0_clip 165 = .ok (.iinc 3 1, 3) := dk_132 3 1 (dk_at dksX0_clip_7 0 rfl rfl)
theorem dX0_clip_168 : decode cX0_clip 168 = .ok (.goto (-38), 3) := dk_167 255 218 (dk_at dksX0_clip_7 3 rfl rfl)
theorem dX0_clip_171 : decode cX0_clip 171 = .ok (.iinc 2 1, 3) := dk_132 2 1 (dk_at dksX0_clip_7 6 rfl rfl)
theorem dX0_clip_174 : decode cX0_clip 174 = .ok (.goto (-83), 3) := dk_167 255 173 (dk_at dksX0_clip_7 9 rfl rfl)
theorem dX0_clip_177 : decode cX0_clip 177 = .ok (.iinc 1 (-1), 3) := dk_132 1 255 (dk_at dksX0_clip_7 12 rfl rfl)
theorem dX0_clip_180 : decode cX0_clip 180 = .ok (.goto (-130), 3) := dk_167 255 126 (dk_at dksX0_clip_7 15 rfl rfl)
theorem dX0_clip_183 : decode cX0_clip 183 = .ok (.return_, 1) := dk_177 (dk_at dksX0_clip_7 18 rfl rfl)
abbrev cX0_take : ByteArray := prog_1_method_21_code
def yX0_take : MethodName := ⟨RX0, "take", "(III)V"⟩
def dkwX0_take_6 : List UInt8 := [180, 0, 167, 27, 29, 79, 177]
abbrev dktX0_take_6 : List UInt8 := dkwX0_take_6 ++ []
def dkwX0_take_5 : List UInt8 := [180, 0, 153, 27, 21, 5, 79, 42, 180, 0, 156, 27, 21, 6, 79, 42, 180, 0, 159, 27, 28, 79, 42]
abbrev dktX0_take_5 : List UInt8 := dkwX0_take_5 ++ dktX0_take_6
def dkwX0_take_4 : List UInt8 := [180, 0, 159, 27, 46, 156, 0, 7, 4, 167, 0, 4, 3, 54, 7, 21, 7, 154, 0, 4, 177, 42]
abbrev dktX0_take_4 : List UInt8 := dkwX0_take_4 ++ dktX0_take_5
def dkwX0_take_3 : List UInt8 := [21, 6, 42, 180, 0, 156, 27, 46, 161, 0, 23, 21, 6, 42, 180, 0, 156, 27, 46, 160, 0, 16, 42]
abbrev dktX0_take_3 : List UInt8 := dkwX0_take_3 ++ dktX0_take_4
def dkwX0_take_2 : List UInt8 := [54, 6, 21, 5, 42, 180, 0, 153, 27, 46, 163, 0, 45, 21, 5, 42, 180, 0, 153, 27, 46, 160, 0, 38]
abbrev dktX0_take_2 : List UInt8 := dkwX0_take_2 ++ dktX0_take_3
def dkwX0_take_1 : List UInt8 := [180, 0, 101, 104, 100, 42, 180, 0, 153, 21, 4, 46, 96, 54, 5, 4, 42, 180, 0, 156, 21, 4, 46, 96]
abbrev dktX0_take_1 : List UInt8 := dkwX0_take_1 ++ dktX0_take_2
def dkwX0_take_0 : List UInt8 := [27, 42, 180, 0, 61, 180, 0, 140, 28, 46, 96, 54, 4, 42, 180, 0, 61, 180, 0, 166, 28, 46, 29, 42]
abbrev dktX0_take_0 : List UInt8 := dkwX0_take_0 ++ dktX0_take_1
theorem dksX0_take_0 : cX0_take.data.toList.drop 0 = dktX0_take_0 := by decide +kernel
theorem dksX0_take_1 : cX0_take.data.toList.drop 24 = dktX0_take_1 := dk_seg dksX0_take_0 24 rfl rfl
theorem dksX0_take_2 : cX0_take.data.toList.drop 48 = dktX0_take_2 := dk_seg dksX0_take_1 24 rfl rfl
theorem dksX0_take_3 : cX0_take.data.toList.drop 72 = dktX0_take_3 := dk_seg dksX0_take_2 24 rfl rfl
theorem dksX0_take_4 : cX0_take.data.toList.drop 95 = dktX0_take_4 := dk_seg dksX0_take_3 23 rfl rfl
theorem dksX0_take_5 : cX0_take.data.toList.drop 117 = dktX0_take_5 := dk_seg dksX0_take_4 22 rfl rfl
theorem dksX0_take_6 : cX0_take.data.toList.drop 140 = dktX0_take_6 := dk_seg dksX0_take_5 23 rfl rfl
theorem dX0_take_0 : decode cX0_take 0 = .ok (.iload_n 1, 1) := dk_27 (dk_at dksX0_take_0 0 rfl rfl)
theorem dX0_take_1 : decode cX0_take 1 = .ok (.aload_n 0, 1) := dk_42 (dk_at dksX0_take_0 1 rfl rfl)
theorem dX0_take_2 : decode cX0_take 2 = .ok (.getfield 61, 3) := dk_180 0 61 (dk_at dksX0_take_0 2 rfl rfl)
theorem dX0_take_5 : decode cX0_take 5 = .ok (.getfield 140, 3) := dk_180 0 140 (dk_at dksX0_take_0 5 rfl rfl)
theorem dX0_take_8 : decode cX0_take 8 = .ok (.iload_n 2, 1) := dk_28 (dk_at dksX0_take_0 8 rfl rfl)
theorem dX0_take_9 : decode cX0_take 9 = .ok (.iaload, 1) := dk_46 (dk_at dksX0_take_0 9 rfl rfl)
theorem dX0_take_10 : decode cX0_take 10 = .ok (.iadd, 1) := dk_96 (dk_at dksX0_take_0 10 rfl rfl)
theorem dX0_take_11 : decode cX0_take 11 = .ok (.istore 4, 2) := dk_54 4 (dk_at dksX0_take_0 11 rfl rfl)
theorem dX0_take_13 : decode cX0_take 13 = .ok (.aload_n 0, 1) := dk_42 (dk_at dksX0_take_0 13 rfl rfl)
theorem dX0_take_14 : decode cX0_take 14 = .ok (.getfield 61, 3) := dk_180 0 61 (dk_at dksX0_take_0 14 rfl rfl)
theorem dX0_take_17 : decode cX0_take 17 = .ok (.getfield 166, 3) := dk_180 0 166 (dk_at dksX0_take_0 17 rfl rfl)
theorem dX0_take_20 : decode cX0_take 20 = .ok (.iload_n 2, 1) := dk_28 (dk_at dksX0_take_0 20 rfl rfl)
theorem dX0_take_21 : decode cX0_take 21 = .ok (.iaload, 1) := dk_46 (dk_at dksX0_take_0 21 rfl rfl)
theorem dX0_take_22 : decode cX0_take 22 = .ok (.iload_n 3, 1) := dk_29 (dk_at dksX0_take_0 22 rfl rfl)
theorem dX0_take_23 : decode cX0_take 23 = .ok (.aload_n 0, 1) := dk_42 (dk_at dksX0_take_0 23 rfl rfl)
theorem dX0_take_24 : decode cX0_take 24 = .ok (.getfield 101, 3) := dk_180 0 101 (dk_at dksX0_take_1 0 rfl rfl)
theorem dX0_take_27 : decode cX0_take 27 = .ok (.imul, 1) := dk_104 (dk_at dksX0_take_1 3 rfl rfl)
theorem dX0_take_28 : decode cX0_take 28 = .ok (.isub, 1) := dk_100 (dk_at dksX0_take_1 4 rfl rfl)
theorem dX0_take_29 : decode cX0_take 29 = .ok (.aload_n 0, 1) := dk_42 (dk_at dksX0_take_1 5 rfl rfl)
theorem dX0_take_30 : decode cX0_take 30 = .ok (.getfield 153, 3) := dk_180 0 153 (dk_at dksX0_take_1 6 rfl rfl)
theorem dX0_take_33 : decode cX0_take 33 = .ok (.iload 4, 2) := dk_21 4 (dk_at dksX0_take_1 9 rfl rfl)
theorem dX0_take_35 : decode cX0_take 35 = .ok (.iaload, 1) := dk_46 (dk_at dksX0_take_1 11 rfl rfl)
theorem dX0_take_36 : decode cX0_take 36 = .ok (.iadd, 1) := dk_96 (dk_at dksX0_take_1 12 rfl rfl)
theorem dX0_take_37 : decode cX0_take 37 = .ok (.istore 5, 2) := dk_54 5 (dk_at dksX0_take_1 13 rfl rfl)
theorem dX0_take_39 : decode cX0_take 39 = .ok (.iconst 1, 1) := dk_4 (dk_at dksX0_take_1 15 rfl rfl)
theorem dX0_take_40 : decode cX0_take 40 = .ok (.aload_n 0, 1) := dk_42 (dk_at dksX0_take_1 16 rfl rfl)
theorem dX0_take_41 : decode cX0_take 41 = .ok (.getfield 156, 3) := dk_180 0 156 (dk_at dksX0_take_1 17 rfl rfl)
theorem dX0_take_44 : decode cX0_take 44 = .ok (.iload 4, 2) := dk_21 4 (dk_at dksX0_take_1 20 rfl rfl)
theorem dX0_take_46 : decode cX0_take 46 = .ok (.iaload, 1) := dk_46 (dk_at dksX0_take_1 22 rfl rfl)
theorem dX0_take_47 : decode cX0_take 47 = .ok (.iadd, 1) := dk_96 (dk_at dksX0_take_1 23 rfl rfl)
theorem dX0_take_48 : decode cX0_take 48 = .ok (.istore 6, 2) := dk_54 6 (dk_at dksX0_take_2 0 rfl rfl)
theorem dX0_take_50 : decode cX0_take 50 = .ok (.iload 5, 2) := dk_21 5 (dk_at dksX0_take_2 2 rfl rfl)
theorem dX0_take_52 : decode cX0_take 52 = .ok (.aload_n 0, 1) := dk_42 (dk_at dksX0_take_2 4 rfl rfl)
theorem dX0_take_53 : decode cX0_take 53 = .ok (.getfield 153, 3) := dk_180 0 153 (dk_at dksX0_take_2 5 rfl rfl)
theorem dX0_take_56 : decode cX0_take 56 = .ok (.iload_n 1, 1) := dk_27 (dk_at dksX0_take_2 8 rfl rfl)
theorem dX0_take_57 : decode cX0_take 57 = .ok (.iaload, 1) := dk_46 (dk_at dksX0_take_2 9 rfl rfl)
theorem dX0_take_58 : decode cX0_take 58 = .ok (.if_icmp .gt 45, 3) := dk_163 0 45 (dk_at dksX0_take_2 10 rfl rfl)
theorem dX0_take_61 : decode cX0_take 61 = .ok (.iload 5, 2) := dk_21 5 (dk_at dksX0_take_2 13 rfl rfl)
theorem dX0_take_63 : decode cX0_take 63 = .ok (.aload_n 0, 1) := dk_42 (dk_at dksX0_take_2 15 rfl rfl)
theorem dX0_take_64 : decode cX0_take 64 = .ok (.getfield 153, 3) := dk_180 0 153 (dk_at dksX0_take_2 16 rfl rfl)
theorem dX0_take_67 : decode cX0_take 67 = .ok (.iload_n 1, 1) := dk_27 (dk_at dksX0_take_2 19 rfl rfl)
theorem dX0_take_68 : decode cX0_take 68 = .ok (.iaload, 1) := dk_46 (dk_at dksX0_take_2 20 rfl rfl)
theorem dX0_take_69 : decode cX0_take 69 = .ok (.if_icmp .ne 38, 3) := dk_160 0 38 (dk_at dksX0_take_2 21 rfl rfl)
theorem dX0_take_72 : decode cX0_take 72 = .ok (.iload 6, 2) := dk_21 6 (dk_at dksX0_take_3 0 rfl rfl)
theorem dX0_take_74 : decode cX0_take 74 = .ok (.aload_n 0, 1) := dk_42 (dk_at dksX0_take_3 2 rfl rfl)
theorem dX0_take_75 : decode cX0_take 75 = .ok (.getfield 156, 3) := dk_180 0 156 (dk_at dksX0_take_3 3 rfl rfl)
theorem dX0_take_78 : decode cX0_take 78 = .ok (.iload_n 1, 1) := dk_27 (dk_at dksX0_take_3 6 rfl rfl)
theorem dX0_take_79 : decode cX0_take 79 = .ok (.iaload, 1) := dk_46 (dk_at dksX0_take_3 7 rfl rfl)
theorem dX0_take_80 : decode cX0_take 80 = .ok (.if_icmp .lt 23, 3) := dk_161 0 23 (dk_at dksX0_take_3 8 rfl rfl)
theorem dX0_take_83 : decode cX0_take 83 = .ok (.iload 6, 2) := dk_21 6 (dk_at dksX0_take_3 11 rfl rfl)
theorem dX0_take_85 : decode cX0_take 85 = .ok (.aload_n 0, 1) := dk_42 (dk_at dksX0_take_3 13 rfl rfl)
theorem dX0_take_86 : decode cX0_take 86 = .ok (.getfield 156, 3) := dk_180 0 156 (dk_at dksX0_take_3 14 rfl rfl)
theorem dX0_take_89 : decode cX0_take 89 = .ok (.iload_n 1, 1) := dk_27 (dk_at dksX0_take_3 17 rfl rfl)
theorem dX0_take_90 : decode cX0_take 90 = .ok (.iaload, 1) := dk_46 (dk_at dksX0_take_3 18 rfl rfl)
theorem dX0_take_91 : decode cX0_take 91 = .ok (.if_icmp .ne 16, 3) := dk_160 0 16 (dk_at dksX0_take_3 19 rfl rfl)
theorem dX0_take_94 : decode cX0_take 94 = .ok (.aload_n 0, 1) := dk_42 (dk_at dksX0_take_3 22 rfl rfl)
theorem dX0_take_95 : decode cX0_take 95 = .ok (.getfield 159, 3) := dk_180 0 159 (dk_at dksX0_take_4 0 rfl rfl)
theorem dX0_take_98 : decode cX0_take 98 = .ok (.iload_n 1, 1) := dk_27 (dk_at dksX0_take_4 3 rfl rfl)
theorem dX0_take_99 : decode cX0_take 99 = .ok (.iaload, 1) := dk_46 (dk_at dksX0_take_4 4 rfl rfl)
theorem dX0_take_100 : decode cX0_take 100 = .ok (.ifCond .ge 7, 3) := dk_156 0 7 (dk_at dksX0_take_4 5 rfl rfl)
theorem dX0_take_103 : decode cX0_take 103 = .ok (.iconst 1, 1) := dk_4 (dk_at dksX0_take_4 8 rfl rfl)
theorem dX0_take_104 : decode cX0_take 104 = .ok (.goto 4, 3) := dk_167 0 4 (dk_at dksX0_take_4 9 rfl rfl)
theorem dX0_take_107 : decode cX0_take 107 = .ok (.iconst 0, 1) := dk_3 (dk_at dksX0_take_4 12 rfl rfl)
theorem dX0_take_108 : decode cX0_take 108 = .ok (.istore 7, 2) := dk_54 7 (dk_at dksX0_take_4 13 rfl rfl)
theorem dX0_take_110 : decode cX0_take 110 = .ok (.iload 7, 2) := dk_21 7 (dk_at dksX0_take_4 15 rfl rfl)
theorem dX0_take_112 : decode cX0_take 112 = .ok (.ifCond .ne 4, 3) := dk_154 0 4 (dk_at dksX0_take_4 17 rfl rfl)
theorem dX0_take_115 : decode cX0_take 115 = .ok (.return_, 1) := dk_177 (dk_at dksX0_take_4 20 rfl rfl)
theorem dX0_take_116 : decode cX0_take 116 = .ok (.aload_n 0, 1) := dk_42 (dk_at dksX0_take_4 21 rfl rfl)
theorem dX0_take_117 : decode cX0_take 117 = .ok (.getfield 153, 3) := dk_180 0 153 (dk_at dksX0_take_5 0 rfl rfl)
theorem dX0_take_120 : decode cX0_take 120 = .ok (.iload_n 1, 1) := dk_27 (dk_at dksX0_take_5 3 rfl rfl)
theorem dX0_take_121 : decode cX0_take 121 = .ok (.iload 5, 2) := dk_21 5 (dk_at dksX0_take_5 4 rfl rfl)
theorem dX0_take_123 : decode cX0_take 123 = .ok (.iastore, 1) := dk_79 (dk_at dksX0_take_5 6 rfl rfl)
theorem dX0_take_124 : decode cX0_take 124 = .ok (.aload_n 0, 1) := dk_42 (dk_at dksX0_take_5 7 rfl rfl)
theorem dX0_take_125 : decode cX0_take 125 = .ok (.getfield 156, 3) := dk_180 0 156 (dk_at dksX0_take_5 8 rfl rfl)
theorem dX0_take_128 : decode cX0_take 128 = .ok (.iload_n 1, 1) := dk_27 (dk_at dksX0_take_5 11 rfl rfl)
theorem dX0_take_129 : decode cX0_take 129 = .ok (.iload 6, 2) := dk_21 6 (dk_at dksX0_take_5 12 rfl rfl)
theorem dX0_take_131 : decode cX0_take 131 = .ok (.iastore, 1) := dk_79 (dk_at dksX0_take_5 14 rfl rfl)
theorem dX0_take_132 : decode cX0_take 132 = .ok (.aload_n 0, 1) := dk_42 (dk_at dksX0_take_5 15 rfl rfl)
theorem dX0_take_133 : decode cX0_take 133 = .ok (.getfield 159, 3) := dk_180 0 159 (dk_at dksX0_take_5 16 rfl rfl)
theorem dX0_take_136 : decode cX0_take 136 = .ok (.iload_n 1, 1) := dk_27 (dk_at dksX0_take_5 19 rfl rfl)
theorem dX0_take_137 : decode cX0_take 137 = .ok (.iload_n 2, 1) := dk_28 (dk_at dksX0_take_5 20 rfl rfl)
theorem dX0_take_138 : decode cX0_take 138 = .ok (.iastore, 1) := dk_79 (dk_at dksX0_take_5 21 rfl rfl)
theorem dX0_take_139 : decode cX0_take 139 = .ok (.aload_n 0, 1) := dk_42 (dk_at dksX0_take_5 22 rfl rfl)
theorem dX0_take_140 : decode cX0_take 140 = .ok (.getfield 167, 3) := dk_180 0 167 (dk_at dksX0_take_6 0 rfl rfl)
theorem dX0_take_143 : decode cX0_take 143 = .ok (.iload_n 1, 1) := dk_27 (dk_at dksX0_take_6 3 rfl rfl)
theorem dX0_take_144 : decode cX0_take 144 = .ok (.iload_n 3, 1) := dk_29 (dk_at dksX0_take_6 4 rfl rfl)
theorem dX0_take_145 : decode cX0_take 145 = .ok (.iastore, 1) := dk_79 (dk_at dksX0_take_6 5 rfl rfl)
theorem dX0_take_146 : decode cX0_take 146 = .ok (.return_, 1) := dk_177 (dk_at dksX0_take_6 6 rfl rfl)
abbrev cX0_sheets : ByteArray := prog_1_method_23_code
def yX0_sheets : MethodName := ⟨RX0, "sheets", "()I"⟩
def dkwX0_sheets_0 : List UInt8 := [42, 182, 0, 169, 42, 180, 0, 156, 3, 46, 172]
abbrev dktX0_sheets_0 : List UInt8 := dkwX0_sheets_0 ++ []
theorem dksX0_sheets_0 : cX0_sheets.data.toList.drop 0 = dktX0_sheets_0 := by decide +kernel
theorem dX0_sheets_0 : decode cX0_sheets 0 = .ok (.aload_n 0, 1) := dk_42 (dk_at dksX0_sheets_0 0 rfl rfl)
theorem dX0_sheets_1 : decode cX0_sheets 1 = .ok (.invokevirtual 169, 3) := dk_182 0 169 (dk_at dksX0_sheets_0 1 rfl rfl)
theorem dX0_sheets_4 : decode cX0_sheets 4 = .ok (.aload_n 0, 1) := dk_42 (dk_at dksX0_sheets_0 4 rfl rfl)
theorem dX0_sheets_5 : decode cX0_sheets 5 = .ok (.getfield 156, 3) := dk_180 0 156 (dk_at dksX0_sheets_0 5 rfl rfl)
theorem dX0_sheets_8 : decode cX0_sheets 8 = .ok (.iconst 0, 1) := dk_3 (dk_at dksX0_sheets_0 8 rfl rfl)
theorem dX0_sheets_9 : decode cX0_sheets 9 = .ok (.iaload, 1) := dk_46 (dk_at dksX0_sheets_0 9 rfl rfl)
theorem dX0_sheets_10 : decode cX0_sheets 10 = .ok (.ireturn, 1) := dk_172 (dk_at dksX0_sheets_0 10 rfl rfl)
abbrev cX0_clipped : ByteArray := prog_1_method_24_code
def yX0_clipped : MethodName := ⟨RX0, "clipped", "(II)I"⟩
def dkwX0_clipped_5 : List UInt8 := [160, 0, 12, 42, 180, 0, 167, 29, 46, 167, 0, 4, 2, 172]
abbrev dktX0_clipped_5 : List UInt8 := dkwX0_clipped_5 ++ []
def dkwX0_clipped_4 : List UInt8 := [154, 0, 7, 29, 167, 0, 32, 28, 4, 160, 0, 12, 42, 180, 0, 159, 29, 46, 167, 0, 18, 28, 5]
abbrev dktX0_clipped_4 : List UInt8 := dkwX0_clipped_4 ++ dktX0_clipped_5
def dkwX0_clipped_3 : List UInt8 := [167, 0, 17, 42, 180, 0, 61, 180, 0, 140, 42, 180, 0, 159, 29, 46, 46, 96, 62, 167, 255, 192, 28]
abbrev dktX0_clipped_3 : List UInt8 := dkwX0_clipped_3 ++ dktX0_clipped_4
def dkwX0_clipped_2 : List UInt8 := [46, 156, 0, 7, 3, 167, 0, 4, 4, 96, 54, 4, 29, 42, 180, 0, 159, 29, 46, 156, 0, 7, 4]
abbrev dktX0_clipped_2 : List UInt8 := dkwX0_clipped_2 ++ dktX0_clipped_3
def dkwX0_clipped_1 : List UInt8 := [54, 4, 42, 180, 0, 159, 29, 46, 155, 0, 9, 21, 4, 27, 162, 0, 55, 21, 4, 42, 180, 0, 159, 29]
abbrev dktX0_clipped_1 : List UInt8 := dkwX0_clipped_1 ++ dktX0_clipped_2
def dkwX0_clipped_0 : List UInt8 := [42, 182, 0, 169, 27, 155, 0, 13, 27, 42, 180, 0, 156, 3, 46, 161, 0, 5, 2, 172, 3, 62, 3]
abbrev dktX0_clipped_0 : List UInt8 := dkwX0_clipped_0 ++ dktX0_clipped_1
theorem dksX0_clipped_0 : cX0_clipped.data.toList.drop 0 = dktX0_clipped_0 := by decide +kernel
theorem dksX0_clipped_1 : cX0_clipped.data.toList.drop 23 = dktX0_clipped_1 := dk_seg dksX0_clipped_0 23 rfl rfl
theorem dksX0_clipped_2 : cX0_clipped.data.toList.drop 47 = dktX0_clipped_2 := dk_seg dksX0_clipped_1 24 rfl rfl
theorem dksX0_clipped_3 : cX0_clipped.data.toList.drop 70 = dktX0_clipped_3 := dk_seg dksX0_clipped_2 23 rfl rfl
theorem dksX0_clipped_4 : cX0_clipped.data.toList.drop 93 = dktX0_clipped_4 := dk_seg dksX0_clipped_3 23 rfl rfl
theorem dksX0_clipped_5 : cX0_clipped.data.toList.drop 116 = dktX0_clipped_5 := dk_seg dksX0_clipped_4 23 rfl rfl
theorem dX0_clipped_0 : decode cX0_clipped 0 = .ok (.aload_n 0, 1) := dk_42 (dk_at dksX0_clipped_0 0 rfl rfl)
theorem dX0_clipped_1 : decode cX0_clipped 1 = .ok (.invokevirtual 169, 3) := dk_182 0 169 (dk_at dksX0_clipped_0 1 rfl rfl)
theorem dX0_clipped_4 : decode cX0_clipped 4 = .ok (.iload_n 1, 1) := dk_27 (dk_at dksX0_clipped_0 4 rfl rfl)
theorem dX0_clipped_5 : decode cX0_clipped 5 = .ok (.ifCond .lt 13, 3) := dk_155 0 13 (dk_at dksX0_clipped_0 5 rfl rfl)
theorem dX0_clipped_8 : decode cX0_clipped 8 = .ok (.iload_n 1, 1) := dk_27 (dk_at dksX0_clipped_0 8 rfl rfl)
theorem dX0_clipped_9 : decode cX0_clipped 9 = .ok (.aload_n 0, 1) := dk_42 (dk_at dksX0_clipped_0 9 rfl rfl)
theorem dX0_clipped_10 : decode cX0_clipped 10 = .ok (.getfield 156, 3) := dk_180 0 156 (dk_at dksX0_clipped_0 10 rfl rfl)
theorem dX0_clipped_13 : decode cX0_clipped 13 = .ok (.iconst 0, 1) := dk_3 (dk_at dksX0_clipped_0 13 rfl rfl)
theorem dX0_clipped_14 : decode cX0_clipped 14 = .ok (.iaload, 1) := dk_46 (dk_at dksX0_clipped_0 14 rfl rfl)
theorem dX0_clipped_15 : decode cX0_clipped 15 = .ok (.if_icmp .lt 5, 3) := dk_161 0 5 (dk_at dksX0_clipped_0 15 rfl rfl)
theorem dX0_clipped_18 : decode cX0_clipped 18 = .ok (.iconst (-1), 1) := dk_2 (dk_at dksX0_clipped_0 18 rfl rfl)
theorem dX0_clipped_19 : decode cX0_clipped 19 = .ok (.ireturn, 1) := dk_172 (dk_at dksX0_clipped_0 19 rfl rfl)
theorem dX0_clipped_20 : decode cX0_clipped 20 = .ok (.iconst 0, 1) := dk_3 (dk_at dksX0_clipped_0 20 rfl rfl)
theorem dX0_clipped_21 : decode cX0_clipped 21 = .ok (.istore_n 3, 1) := dk_62 (dk_at dksX0_clipped_0 21 rfl rfl)
theorem dX0_clipped_22 : decode cX0_clipped 22 = .ok (.iconst 0, 1) := dk_3 (dk_at dksX0_clipped_0 22 rfl rfl)
theorem dX0_clipped_23 : decode cX0_clipped 23 = .ok (.istore 4, 2) := dk_54 4 (dk_at dksX0_clipped_1 0 rfl rfl)
theorem dX0_clipped_25 : decode cX0_clipped 25 = .ok (.aload_n 0, 1) := dk_42 (dk_at dksX0_clipped_1 2 rfl rfl)
theorem dX0_clipped_26 : decode cX0_clipped 26 = .ok (.getfield 159, 3) := dk_180 0 159 (dk_at dksX0_clipped_1 3 rfl rfl)
theorem dX0_clipped_29 : decode cX0_clipped 29 = .ok (.iload_n 3, 1) := dk_29 (dk_at dksX0_clipped_1 6 rfl rfl)
theorem dX0_clipped_30 : decode cX0_clipped 30 = .ok (.iaload, 1) := dk_46 (dk_at dksX0_clipped_1 7 rfl rfl)
theorem dX0_clipped_31 : decode cX0_clipped 31 = .ok (.ifCond .lt 9, 3) := dk_155 0 9 (dk_at dksX0_clipped_1 8 rfl rfl)
theorem dX0_clipped_34 : decode cX0_clipped 34 = .ok (.iload 4, 2) := dk_21 4 (dk_at dksX0_clipped_1 11 rfl rfl)
theorem dX0_clipped_36 : decode cX0_clipped 36 = .ok (.iload_n 1, 1) := dk_27 (dk_at dksX0_clipped_1 13 rfl rfl)
theorem dX0_clipped_37 : decode cX0_clipped 37 = .ok (.if_icmp .ge 55, 3) := dk_162 0 55 (dk_at dksX0_clipped_1 14 rfl rfl)
theorem dX0_clipped_40 : decode cX0_clipped 40 = .ok (.iload 4, 2) := dk_21 4 (dk_at dksX0_clipped_1 17 rfl rfl)
theorem dX0_clipped_42 : decode cX0_clipped 42 = .ok (.aload_n 0, 1) := dk_42 (dk_at dksX0_clipped_1 19 rfl rfl)
theorem dX0_clipped_43 : decode cX0_clipped 43 = .ok (.getfield 159, 3) := dk_180 0 159 (dk_at dksX0_clipped_1 20 rfl rfl)
theorem dX0_clipped_46 : decode cX0_clipped 46 = .ok (.iload_n 3, 1) := dk_29 (dk_at dksX0_clipped_1 23 rfl rfl)
theorem dX0_clipped_47 : decode cX0_clipped 47 = .ok (.iaload, 1) := dk_46 (dk_at dksX0_clipped_2 0 rfl rfl)
theorem dX0_clipped_48 : decode cX0_clipped 48 = .ok (.ifCond .ge 7, 3) := dk_156 0 7 (dk_at dksX0_clipped_2 1 rfl rfl)
theorem dX0_clipped_51 : decode cX0_clipped 51 = .ok (.iconst 0, 1) := dk_3 (dk_at dksX0_clipped_2 4 rfl rfl)
theorem dX0_clipped_52 : decode cX0_clipped 52 = .ok (.goto 4, 3) := dk_167 0 4 (dk_at dksX0_clipped_2 5 rfl rfl)
theorem dX0_clipped_55 : decode cX0_clipped 55 = .ok (.iconst 1, 1) := dk_4 (dk_at dksX0_clipped_2 8 rfl rfl)
theorem dX0_clipped_56 : decode cX0_clipped 56 = .ok (.iadd, 1) := dk_96 (dk_at dksX0_clipped_2 9 rfl rfl)
theorem dX0_clipped_57 : decode cX0_clipped 57 = .ok (.istore 4, 2) := dk_54 4 (dk_at dksX0_clipped_2 10 rfl rfl)
theorem dX0_clipped_59 : decode cX0_clipped 59 = .ok (.iload_n 3, 1) := dk_29 (dk_at dksX0_clipped_2 12 rfl rfl)
theorem dX0_clipped_60 : decode cX0_clipped 60 = .ok (.aload_n 0, 1) := dk_42 (dk_at dksX0_clipped_2 13 rfl rfl)
theorem dX0_clipped_61 : decode cX0_clipped 61 = .ok (.getfield 159, 3) := dk_180 0 159 (dk_at dksX0_clipped_2 14 rfl rfl)
theorem dX0_clipped_64 : decode cX0_clipped 64 = .ok (.iload_n 3, 1) := dk_29 (dk_at dksX0_clipped_2 17 rfl rfl)
theorem dX0_clipped_65 : decode cX0_clipped 65 = .ok (.iaload, 1) := dk_46 (dk_at dksX0_clipped_2 18 rfl rfl)
theorem dX0_clipped_66 : decode cX0_clipped 66 = .ok (.ifCond .ge 7, 3) := dk_156 0 7 (dk_at dksX0_clipped_2 19 rfl rfl)
theorem dX0_clipped_69 : decode cX0_clipped 69 = .ok (.iconst 1, 1) := dk_4 (dk_at dksX0_clipped_2 22 rfl rfl)
theorem dX0_clipped_70 : decode cX0_clipped 70 = .ok (.goto 17, 3) := dk_167 0 17 (dk_at dksX0_clipped_3 0 rfl rfl)
theorem dX0_clipped_73 : decode cX0_clipped 73 = .ok (.aload_n 0, 1) := dk_42 (dk_at dksX0_clipped_3 3 rfl rfl)
theorem dX0_clipped_74 : decode cX0_clipped 74 = .ok (.getfield 61, 3) := dk_180 0 61 (dk_at dksX0_clipped_3 4 rfl rfl)
theorem dX0_clipped_77 : decode cX0_clipped 77 = .ok (.getfield 140, 3) := dk_180 0 140 (dk_at dksX0_clipped_3 7 rfl rfl)
theorem dX0_clipped_80 : decode cX0_clipped 80 = .ok (.aload_n 0, 1) := dk_42 (dk_at dksX0_clipped_3 10 rfl rfl)
theorem dX0_clipped_81 : decode cX0_clipped 81 = .ok (.getfield 159, 3) := dk_180 0 159 (dk_at dksX0_clipped_3 11 rfl rfl)
theorem dX0_clipped_84 : decode cX0_clipped 84 = .ok (.iload_n 3, 1) := dk_29 (dk_at dksX0_clipped_3 14 rfl rfl)
theorem dX0_clipped_85 : decode cX0_clipped 85 = .ok (.iaload, 1) := dk_46 (dk_at dksX0_clipped_3 15 rfl rfl)
theorem dX0_clipped_86 : decode cX0_clipped 86 = .ok (.iaload, 1) := dk_46 (dk_at dksX0_clipped_3 16 rfl rfl)
theorem dX0_clipped_87 : decode cX0_clipped 87 = .ok (.iadd, 1) := dk_96 (dk_at dksX0_clipped_3 17 rfl rfl)
theorem dX0_clipped_88 : decode cX0_clipped 88 = .ok (.istore_n 3, 1) := dk_62 (dk_at dksX0_clipped_3 18 rfl rfl)
theorem dX0_clipped_89 : decode cX0_clipped 89 = .ok (.goto (-64), 3) := dk_167 255 192 (dk_at dksX0_clipped_3 19 rfl rfl)
theorem dX0_clipped_92 : decode cX0_clipped 92 = .ok (.iload_n 2, 1) := dk_28 (dk_at dksX0_clipped_3 22 rfl rfl)
theorem dX0_clipped_93 : decode cX0_clipped 93 = .ok (.ifCond .ne 7, 3) := dk_154 0 7 (dk_at dksX0_clipped_4 0 rfl rfl)
theorem dX0_clipped_96 : decode cX0_clipped 96 = .ok (.iload_n 3, 1) := dk_29 (dk_at dksX0_clipped_4 3 rfl rfl)
theorem dX0_clipped_97 : decode cX0_clipped 97 = .ok (.goto 32, 3) := dk_167 0 32 (dk_at dksX0_clipped_4 4 rfl rfl)
theorem dX0_clipped_100 : decode cX0_clipped 100 = .ok (.iload_n 2, 1) := dk_28 (dk_at dksX0_clipped_4 7 rfl rfl)
theorem dX0_clipped_101 : decode cX0_clipped 101 = .ok (.iconst 1, 1) := dk_4 (dk_at dksX0_clipped_4 8 rfl rfl)
theorem dX0_clipped_102 : decode cX0_clipped 102 = .ok (.if_icmp .ne 12, 3) := dk_160 0 12 (dk_at dksX0_clipped_4 9 rfl rfl)
theorem dX0_clipped_105 : decode cX0_clipped 105 = .ok (.aload_n 0, 1) := dk_42 (dk_at dksX0_clipped_4 12 rfl rfl)
theorem dX0_clipped_106 : decode cX0_clipped 106 = .ok (.getfield 159, 3) := dk_180 0 159 (dk_at dksX0_clipped_4 13 rfl rfl)
theorem dX0_clipped_109 : decode cX0_clipped 109 = .ok (.iload_n 3, 1) := dk_29 (dk_at dksX0_clipped_4 16 rfl rfl)
theorem dX0_clipped_110 : decode cX0_clipped 110 = .ok (.iaload, 1) := dk_46 (dk_at dksX0_clipped_4 17 rfl rfl)
theorem dX0_clipped_111 : decode cX0_clipped 111 = .ok (.goto 18, 3) := dk_167 0 18 (dk_at dksX0_clipped_4 18 rfl rfl)
theorem dX0_clipped_114 : decode cX0_clipped 114 = .ok (.iload_n 2, 1) := dk_28 (dk_at dksX0_clipped_4 21 rfl rfl)
theorem dX0_clipped_115 : decode cX0_clipped 115 = .ok (.iconst 2, 1) := dk_5 (dk_at dksX0_clipped_4 22 rfl rfl)
theorem dX0_clipped_116 : decode cX0_clipped 116 = .ok (.if_icmp .ne 12, 3) := dk_160 0 12 (dk_at dksX0_clipped_5 0 rfl rfl)
theorem dX0_clipped_119 : decode cX0_clipped 119 = .ok (.aload_n 0, 1) := dk_42 (dk_at dksX0_clipped_5 3 rfl rfl)
theorem dX0_clipped_120 : decode cX0_clipped 120 = .ok (.getfield 167, 3) := dk_180 0 167 (dk_at dksX0_clipped_5 4 rfl rfl)
theorem dX0_clipped_123 : decode cX0_clipped 123 = .ok (.iload_n 3, 1) := dk_29 (dk_at dksX0_clipped_5 7 rfl rfl)
theorem dX0_clipped_124 : decode cX0_clipped 124 = .ok (.iaload, 1) := dk_46 (dk_at dksX0_clipped_5 8 rfl rfl)
theorem dX0_clipped_125 : decode cX0_clipped 125 = .ok (.goto 4, 3) := dk_167 0 4 (dk_at dksX0_clipped_5 9 rfl rfl)
theorem dX0_clipped_128 : decode cX0_clipped 128 = .ok (.iconst (-1), 1) := dk_2 (dk_at dksX0_clipped_5 12 rfl rfl)
theorem dX0_clipped_129 : decode cX0_clipped 129 = .ok (.ireturn, 1) := dk_172 (dk_at dksX0_clipped_5 13 rfl rfl)
abbrev cX0_init : ByteArray := prog_1_method_25_code
def yX0_init : MethodName := ⟨RX0, "<init>", "()V"⟩
def dkwX0_init_9 : List UInt8 := [180, 0, 184, 27, 4, 79, 42, 180, 0, 187, 27, 4, 84, 132, 1, 1, 167, 255, 225, 177]
abbrev dktX0_init_9 : List UInt8 := dkwX0_init_9 ++ []
def dkwX0_init_8 : List UInt8 := [188, 10, 181, 0, 215, 3, 60, 27, 16, 6, 162, 0, 31, 42, 180, 0, 178, 27, 16, 10, 79, 42]
abbrev dktX0_init_8 : List UInt8 := dkwX0_init_8 ++ dktX0_init_9
def dkwX0_init_7 : List UInt8 := [181, 0, 206, 42, 17, 4, 0, 188, 10, 181, 0, 209, 42, 16, 10, 188, 10, 181, 0, 212, 42, 16, 10]
abbrev dktX0_init_7 : List UInt8 := dkwX0_init_7 ++ dktX0_init_8
def dkwX0_init_6 : List UInt8 := [181, 0, 194, 42, 4, 181, 0, 197, 42, 16, 10, 181, 0, 200, 42, 4, 181, 0, 203, 42, 16, 60]
abbrev dktX0_init_6 : List UInt8 := dkwX0_init_6 ++ dktX0_init_7
def dkwX0_init_5 : List UInt8 := [181, 0, 184, 42, 16, 6, 188, 4, 181, 0, 187, 42, 16, 10, 188, 10, 181, 0, 191, 42, 16, 10, 188, 10]
abbrev dktX0_init_5 : List UInt8 := dkwX0_init_5 ++ dktX0_init_6
def dkwX0_init_4 : List UInt8 := [181, 0, 167, 42, 16, 6, 188, 10, 181, 0, 178, 42, 16, 6, 188, 10, 181, 0, 181, 42, 16, 6, 188, 10]
abbrev dktX0_init_4 : List UInt8 := dkwX0_init_4 ++ dktX0_init_5
def dkwX0_init_3 : List UInt8 := [17, 1, 45, 188, 10, 181, 0, 156, 42, 17, 1, 45, 188, 10, 181, 0, 159, 42, 17, 1, 45, 188, 10]
abbrev dktX0_init_3 : List UInt8 := dkwX0_init_3 ++ dktX0_init_4
def dkwX0_init_2 : List UInt8 := [181, 0, 101, 42, 187, 0, 109, 89, 183, 0, 177, 181, 0, 104, 42, 17, 1, 45, 188, 10, 181, 0, 153, 42]
abbrev dktX0_init_2 : List UInt8 := dkwX0_init_2 ++ dktX0_init_3
def dkwX0_init_1 : List UInt8 := [2, 181, 0, 44, 42, 17, 2, 88, 188, 8, 181, 0, 37, 42, 17, 1, 44, 188, 8, 181, 0, 86, 42, 4]
abbrev dktX0_init_1 : List UInt8 := dkwX0_init_1 ++ dktX0_init_2
def dkwX0_init_0 : List UInt8 := [42, 183, 0, 172, 42, 16, 24, 188, 10, 181, 0, 4, 42, 187, 0, 70, 89, 183, 0, 176, 181, 0, 61, 42]
abbrev dktX0_init_0 : List UInt8 := dkwX0_init_0 ++ dktX0_init_1
theorem dksX0_init_0 : cX0_init.data.toList.drop 0 = dktX0_init_0 := by decide +kernel
theorem dksX0_init_1 : cX0_init.data.toList.drop 24 = dktX0_init_1 := dk_seg dksX0_init_0 24 rfl rfl
theorem dksX0_init_2 : cX0_init.data.toList.drop 48 = dktX0_init_2 := dk_seg dksX0_init_1 24 rfl rfl
theorem dksX0_init_3 : cX0_init.data.toList.drop 72 = dktX0_init_3 := dk_seg dksX0_init_2 24 rfl rfl
theorem dksX0_init_4 : cX0_init.data.toList.drop 95 = dktX0_init_4 := dk_seg dksX0_init_3 23 rfl rfl
theorem dksX0_init_5 : cX0_init.data.toList.drop 119 = dktX0_init_5 := dk_seg dksX0_init_4 24 rfl rfl
theorem dksX0_init_6 : cX0_init.data.toList.drop 143 = dktX0_init_6 := dk_seg dksX0_init_5 24 rfl rfl
theorem dksX0_init_7 : cX0_init.data.toList.drop 165 = dktX0_init_7 := dk_seg dksX0_init_6 22 rfl rfl
theorem dksX0_init_8 : cX0_init.data.toList.drop 188 = dktX0_init_8 := dk_seg dksX0_init_7 23 rfl rfl
theorem dksX0_init_9 : cX0_init.data.toList.drop 210 = dktX0_init_9 := dk_seg dksX0_init_8 22 rfl rfl
theorem dX0_init_0 : decode cX0_init 0 = .ok (.aload_n 0, 1) := dk_42 (dk_at dksX0_init_0 0 rfl rfl)
theorem dX0_init_1 : decode cX0_init 1 = .ok (.invokespecial 172, 3) := dk_183 0 172 (dk_at dksX0_init_0 1 rfl rfl)
theorem dX0_init_4 : decode cX0_init 4 = .ok (.aload_n 0, 1) := dk_42 (dk_at dksX0_init_0 4 rfl rfl)
theorem dX0_init_5 : decode cX0_init 5 = .ok (.bipush 24, 2) := dk_16 24 (dk_at dksX0_init_0 5 rfl rfl)
theorem dX0_init_7 : decode cX0_init 7 = .ok (.newarray .int, 2) := dk_188_10 (dk_at dksX0_init_0 7 rfl rfl)
theorem dX0_init_9 : decode cX0_init 9 = .ok (.putfield 4, 3) := dk_181 0 4 (dk_at dksX0_init_0 9 rfl rfl)
theorem dX0_init_12 : decode cX0_init 12 = .ok (.aload_n 0, 1) := dk_42 (dk_at dksX0_init_0 12 rfl rfl)
theorem dX0_init_13 : decode cX0_init 13 = .ok (.new 70, 3) := dk_187 0 70 (dk_at dksX0_init_0 13 rfl rfl)
theorem dX0_init_16 : decode cX0_init 16 = .ok (.dup, 1) := dk_89 (dk_at dksX0_init_0 16 rfl rfl)
theorem dX0_init_17 : decode cX0_init 17 = .ok (.invokespecial 176, 3) := dk_183 0 176 (dk_at dksX0_init_0 17 rfl rfl)
theorem dX0_init_20 : decode cX0_init 20 = .ok (.putfield 61, 3) := dk_181 0 61 (dk_at dksX0_init_0 20 rfl rfl)
theorem dX0_init_23 : decode cX0_init 23 = .ok (.aload_n 0, 1) := dk_42 (dk_at dksX0_init_0 23 rfl rfl)
theorem dX0_init_24 : decode cX0_init 24 = .ok (.iconst (-1), 1) := dk_2 (dk_at dksX0_init_1 0 rfl rfl)
theorem dX0_init_25 : decode cX0_init 25 = .ok (.putfield 44, 3) := dk_181 0 44 (dk_at dksX0_init_1 1 rfl rfl)
theorem dX0_init_28 : decode cX0_init 28 = .ok (.aload_n 0, 1) := dk_42 (dk_at dksX0_init_1 4 rfl rfl)
theorem dX0_init_29 : decode cX0_init 29 = .ok (.sipush 600, 3) := dk_17 2 88 (dk_at dksX0_init_1 5 rfl rfl)
theorem dX0_init_32 : decode cX0_init 32 = .ok (.newarray .byte, 2) := dk_188_8 (dk_at dksX0_init_1 8 rfl rfl)
theorem dX0_init_34 : decode cX0_init 34 = .ok (.putfield 37, 3) := dk_181 0 37 (dk_at dksX0_init_1 10 rfl rfl)
theorem dX0_init_37 : decode cX0_init 37 = .ok (.aload_n 0, 1) := dk_42 (dk_at dksX0_init_1 13 rfl rfl)
theorem dX0_init_38 : decode cX0_init 38 = .ok (.sipush 300, 3) := dk_17 1 44 (dk_at dksX0_init_1 14 rfl rfl)
theorem dX0_init_41 : decode cX0_init 41 = .ok (.newarray .byte, 2) := dk_188_8 (dk_at dksX0_init_1 17 rfl rfl)
theorem dX0_init_43 : decode cX0_init 43 = .ok (.putfield 86, 3) := dk_181 0 86 (dk_at dksX0_init_1 19 rfl rfl)
theorem dX0_init_46 : decode cX0_init 46 = .ok (.aload_n 0, 1) := dk_42 (dk_at dksX0_init_1 22 rfl rfl)
theorem dX0_init_47 : decode cX0_init 47 = .ok (.iconst 1, 1) := dk_4 (dk_at dksX0_init_1 23 rfl rfl)
theorem dX0_init_48 : decode cX0_init 48 = .ok (.putfield 101, 3) := dk_181 0 101 (dk_at dksX0_init_2 0 rfl rfl)
theorem dX0_init_51 : decode cX0_init 51 = .ok (.aload_n 0, 1) := dk_42 (dk_at dksX0_init_2 3 rfl rfl)
theorem dX0_init_52 : decode cX0_init 52 = .ok (.new 109, 3) := dk_187 0 109 (dk_at dksX0_init_2 4 rfl rfl)
theorem dX0_init_55 : decode cX0_init 55 = .ok (.dup, 1) := dk_89 (dk_at dksX0_init_2 7 rfl rfl)
theorem dX0_init_56 : decode cX0_init 56 = .ok (.invokespecial 177, 3) := dk_183 0 177 (dk_at dksX0_init_2 8 rfl rfl)
theorem dX0_init_59 : decode cX0_init 59 = .ok (.putfield 104, 3) := dk_181 0 104 (dk_at dksX0_init_2 11 rfl rfl)
theorem dX0_init_62 : decode cX0_init 62 = .ok (.aload_n 0, 1) := dk_42 (dk_at dksX0_init_2 14 rfl rfl)
theorem dX0_init_63 : decode cX0_init 63 = .ok (.sipush 301, 3) := dk_17 1 45 (dk_at dksX0_init_2 15 rfl rfl)
theorem dX0_init_66 : decode cX0_init 66 = .ok (.newarray .int, 2) := dk_188_10 (dk_at dksX0_init_2 18 rfl rfl)
theorem dX0_init_68 : decode cX0_init 68 = .ok (.putfield 153, 3) := dk_181 0 153 (dk_at dksX0_init_2 20 rfl rfl)
theorem dX0_init_71 : decode cX0_init 71 = .ok (.aload_n 0, 1) := dk_42 (dk_at dksX0_init_2 23 rfl rfl)
theorem dX0_init_72 : decode cX0_init 72 = .ok (.sipush 301, 3) := dk_17 1 45 (dk_at dksX0_init_3 0 rfl rfl)
theorem dX0_init_75 : decode cX0_init 75 = .ok (.newarray .int, 2) := dk_188_10 (dk_at dksX0_init_3 3 rfl rfl)
theorem dX0_init_77 : decode cX0_init 77 = .ok (.putfield 156, 3) := dk_181 0 156 (dk_at dksX0_init_3 5 rfl rfl)
theorem dX0_init_80 : decode cX0_init 80 = .ok (.aload_n 0, 1) := dk_42 (dk_at dksX0_init_3 8 rfl rfl)
theorem dX0_init_81 : decode cX0_init 81 = .ok (.sipush 301, 3) := dk_17 1 45 (dk_at dksX0_init_3 9 rfl rfl)
theorem dX0_init_84 : decode cX0_init 84 = .ok (.newarray .int, 2) := dk_188_10 (dk_at dksX0_init_3 12 rfl rfl)
theorem dX0_init_86 : decode cX0_init 86 = .ok (.putfield 159, 3) := dk_181 0 159 (dk_at dksX0_init_3 14 rfl rfl)
theorem dX0_init_89 : decode cX0_init 89 = .ok (.aload_n 0, 1) := dk_42 (dk_at dksX0_init_3 17 rfl rfl)
theorem dX0_init_90 : decode cX0_init 90 = .ok (.sipush 301, 3) := dk_17 1 45 (dk_at dksX0_init_3 18 rfl rfl)
theorem dX0_init_93 : decode cX0_init 93 = .ok (.newarray .int, 2) := dk_188_10 (dk_at dksX0_init_3 21 rfl rfl)
theorem dX0_init_95 : decode cX0_init 95 = .ok (.putfield 167, 3) := dk_181 0 167 (dk_at dksX0_init_4 0 rfl rfl)
theorem dX0_init_98 : decode cX0_init 98 = .ok (.aload_n 0, 1) := dk_42 (dk_at dksX0_init_4 3 rfl rfl)
theorem dX0_init_99 : decode cX0_init 99 = .ok (.bipush 6, 2) := dk_16 6 (dk_at dksX0_init_4 4 rfl rfl)
theorem dX0_init_101 : decode cX0_init 101 = .ok (.newarray .int, 2) := dk_188_10 (dk_at dksX0_init_4 6 rfl rfl)
theorem dX0_init_103 : decode cX0_init 103 = .ok (.putfield 178, 3) := dk_181 0 178 (dk_at dksX0_init_4 8 rfl rfl)
theorem dX0_init_106 : decode cX0_init 106 = .ok (.aload_n 0, 1) := dk_42 (dk_at dksX0_init_4 11 rfl rfl)
theorem dX0_init_107 : decode cX0_init 107 = .ok (.bipush 6, 2) := dk_16 6 (dk_at dksX0_init_4 12 rfl rfl)
theorem dX0_init_109 : decode cX0_init 109 = .ok (.newarray .int, 2) := dk_188_10 (dk_at dksX0_init_4 14 rfl rfl)
theorem dX0_init_111 : decode cX0_init 111 = .ok (.putfield 181, 3) := dk_181 0 181 (dk_at dksX0_init_4 16 rfl rfl)
theorem dX0_init_114 : decode cX0_init 114 = .ok (.aload_n 0, 1) := dk_42 (dk_at dksX0_init_4 19 rfl rfl)
theorem dX0_init_115 : decode cX0_init 115 = .ok (.bipush 6, 2) := dk_16 6 (dk_at dksX0_init_4 20 rfl rfl)
theorem dX0_init_117 : decode cX0_init 117 = .ok (.newarray .int, 2) := dk_188_10 (dk_at dksX0_init_4 22 rfl rfl)
theorem dX0_init_119 : decode cX0_init 119 = .ok (.putfield 184, 3) := dk_181 0 184 (dk_at dksX0_init_5 0 rfl rfl)
theorem dX0_init_122 : decode cX0_init 122 = .ok (.aload_n 0, 1) := dk_42 (dk_at dksX0_init_5 3 rfl rfl)
theorem dX0_init_123 : decode cX0_init 123 = .ok (.bipush 6, 2) := dk_16 6 (dk_at dksX0_init_5 4 rfl rfl)
theorem dX0_init_125 : decode cX0_init 125 = .ok (.newarray .boolean, 2) := dk_188_4 (dk_at dksX0_init_5 6 rfl rfl)
theorem dX0_init_127 : decode cX0_init 127 = .ok (.putfield 187, 3) := dk_181 0 187 (dk_at dksX0_init_5 8 rfl rfl)
theorem dX0_init_130 : decode cX0_init 130 = .ok (.aload_n 0, 1) := dk_42 (dk_at dksX0_init_5 11 rfl rfl)
theorem dX0_init_131 : decode cX0_init 131 = .ok (.bipush 10, 2) := dk_16 10 (dk_at dksX0_init_5 12 rfl rfl)
theorem dX0_init_133 : decode cX0_init 133 = .ok (.newarray .int, 2) := dk_188_10 (dk_at dksX0_init_5 14 rfl rfl)
theorem dX0_init_135 : decode cX0_init 135 = .ok (.putfield 191, 3) := dk_181 0 191 (dk_at dksX0_init_5 16 rfl rfl)
theorem dX0_init_138 : decode cX0_init 138 = .ok (.aload_n 0, 1) := dk_42 (dk_at dksX0_init_5 19 rfl rfl)
theorem dX0_init_139 : decode cX0_init 139 = .ok (.bipush 10, 2) := dk_16 10 (dk_at dksX0_init_5 20 rfl rfl)
theorem dX0_init_141 : decode cX0_init 141 = .ok (.newarray .int, 2) := dk_188_10 (dk_at dksX0_init_5 22 rfl rfl)
theorem dX0_init_143 : decode cX0_init 143 = .ok (.putfield 194, 3) := dk_181 0 194 (dk_at dksX0_init_6 0 rfl rfl)
theorem dX0_init_146 : decode cX0_init 146 = .ok (.aload_n 0, 1) := dk_42 (dk_at dksX0_init_6 3 rfl rfl)
theorem dX0_init_147 : decode cX0_init 147 = .ok (.iconst 1, 1) := dk_4 (dk_at dksX0_init_6 4 rfl rfl)
theorem dX0_init_148 : decode cX0_init 148 = .ok (.putfield 197, 3) := dk_181 0 197 (dk_at dksX0_init_6 5 rfl rfl)
theorem dX0_init_151 : decode cX0_init 151 = .ok (.aload_n 0, 1) := dk_42 (dk_at dksX0_init_6 8 rfl rfl)
theorem dX0_init_152 : decode cX0_init 152 = .ok (.bipush 10, 2) := dk_16 10 (dk_at dksX0_init_6 9 rfl rfl)
theorem dX0_init_154 : decode cX0_init 154 = .ok (.putfield 200, 3) := dk_181 0 200 (dk_at dksX0_init_6 11 rfl rfl)
theorem dX0_init_157 : decode cX0_init 157 = .ok (.aload_n 0, 1) := dk_42 (dk_at dksX0_init_6 14 rfl rfl)
theorem dX0_init_158 : decode cX0_init 158 = .ok (.iconst 1, 1) := dk_4 (dk_at dksX0_init_6 15 rfl rfl)
theorem dX0_init_159 : decode cX0_init 159 = .ok (.putfield 203, 3) := dk_181 0 203 (dk_at dksX0_init_6 16 rfl rfl)
theorem dX0_init_162 : decode cX0_init 162 = .ok (.aload_n 0, 1) := dk_42 (dk_at dksX0_init_6 19 rfl rfl)
theorem dX0_init_163 : decode cX0_init 163 = .ok (.bipush 60, 2) := dk_16 60 (dk_at dksX0_init_6 20 rfl rfl)
theorem dX0_init_165 : decode cX0_init 165 = .ok (.putfield 206, 3) := dk_181 0 206 (dk_at dksX0_init_7 0 rfl rfl)
theorem dX0_init_168 : decode cX0_init 168 = .ok (.aload_n 0, 1) := dk_42 (dk_at dksX0_init_7 3 rfl rfl)
theorem dX0_init_169 : decode cX0_init 169 = .ok (.sipush 1024, 3) := dk_17 4 0 (dk_at dksX0_init_7 4 rfl rfl)
theorem dX0_init_172 : decode cX0_init 172 = .ok (.newarray .int, 2) := dk_188_10 (dk_at dksX0_init_7 7 rfl rfl)
theorem dX0_init_174 : decode cX0_init 174 = .ok (.putfield 209, 3) := dk_181 0 209 (dk_at dksX0_init_7 9 rfl rfl)
theorem dX0_init_177 : decode cX0_init 177 = .ok (.aload_n 0, 1) := dk_42 (dk_at dksX0_init_7 12 rfl rfl)
theorem dX0_init_178 : decode cX0_init 178 = .ok (.bipush 10, 2) := dk_16 10 (dk_at dksX0_init_7 13 rfl rfl)
theorem dX0_init_180 : decode cX0_init 180 = .ok (.newarray .int, 2) := dk_188_10 (dk_at dksX0_init_7 15 rfl rfl)
theorem dX0_init_182 : decode cX0_init 182 = .ok (.putfield 212, 3) := dk_181 0 212 (dk_at dksX0_init_7 17 rfl rfl)
theorem dX0_init_185 : decode cX0_init 185 = .ok (.aload_n 0, 1) := dk_42 (dk_at dksX0_init_7 20 rfl rfl)
theorem dX0_init_186 : decode cX0_init 186 = .ok (.bipush 10, 2) := dk_16 10 (dk_at dksX0_init_7 21 rfl rfl)
theorem dX0_init_188 : decode cX0_init 188 = .ok (.newarray .int, 2) := dk_188_10 (dk_at dksX0_init_8 0 rfl rfl)
theorem dX0_init_190 : decode cX0_init 190 = .ok (.putfield 215, 3) := dk_181 0 215 (dk_at dksX0_init_8 2 rfl rfl)
theorem dX0_init_193 : decode cX0_init 193 = .ok (.iconst 0, 1) := dk_3 (dk_at dksX0_init_8 5 rfl rfl)
theorem dX0_init_194 : decode cX0_init 194 = .ok (.istore_n 1, 1) := dk_60 (dk_at dksX0_init_8 6 rfl rfl)
theorem dX0_init_195 : decode cX0_init 195 = .ok (.iload_n 1, 1) := dk_27 (dk_at dksX0_init_8 7 rfl rfl)
theorem dX0_init_196 : decode cX0_init 196 = .ok (.bipush 6, 2) := dk_16 6 (dk_at dksX0_init_8 8 rfl rfl)
theorem dX0_init_198 : decode cX0_init 198 = .ok (.if_icmp .ge 31, 3) := dk_162 0 31 (dk_at dksX0_init_8 10 rfl rfl)
theorem dX0_init_201 : decode cX0_init 201 = .ok (.aload_n 0, 1) := dk_42 (dk_at dksX0_init_8 13 rfl rfl)
theorem dX0_init_202 : decode cX0_init 202 = .ok (.getfield 178, 3) := dk_180 0 178 (dk_at dksX0_init_8 14 rfl rfl)
theorem dX0_init_205 : decode cX0_init 205 = .ok (.iload_n 1, 1) := dk_27 (dk_at dksX0_init_8 17 rfl rfl)
theorem dX0_init_206 : decode cX0_init 206 = .ok (.bipush 10, 2) := dk_16 10 (dk_at dksX0_init_8 18 rfl rfl)
theorem dX0_init_208 : decode cX0_init 208 = .ok (.iastore, 1) := dk_79 (dk_at dksX0_init_8 20 rfl rfl)
theorem dX0_init_209 : decode cX0_init 209 = .ok (.aload_n 0, 1) := dk_42 (dk_at dksX0_init_8 21 rfl rfl)
theorem dX0_init_210 : decode cX0_init 210 = .ok (.getfield 184, 3) := dk_180 0 184 (dk_at dksX0_init_9 0 rfl rfl)
theorem dX0_init_213 : decode cX0_init 213 = .ok (.iload_n 1, 1) := dk_27 (dk_at dksX0_init_9 3 rfl rfl)
theorem dX0_init_214 : decode cX0_init 214 = .ok (.iconst 1, 1) := dk_4 (dk_at dksX0_init_9 4 rfl rfl)
theorem dX0_init_215 : decode cX0_init 215 = .ok (.iastore, 1) := dk_79 (dk_at dksX0_init_9 5 rfl rfl)
theorem dX0_init_216 : decode cX0_init 216 = .ok (.aload_n 0, 1) := dk_42 (dk_at dksX0_init_9 6 rfl rfl)
theorem dX0_init_217 : decode cX0_init 217 = .ok (.getfield 187, 3) := dk_180 0 187 (dk_at dksX0_init_9 7 rfl rfl)
theorem dX0_init_220 : decode cX0_init 220 = .ok (.iload_n 1, 1) := dk_27 (dk_at dksX0_init_9 10 rfl rfl)
theorem dX0_init_221 : decode cX0_init 221 = .ok (.iconst 1, 1) := dk_4 (dk_at dksX0_init_9 11 rfl rfl)
theorem dX0_init_222 : decode cX0_init 222 = .ok (.bastore, 1) := dk_84 (dk_at dksX0_init_9 12 rfl rfl)
theorem dX0_init_223 : decode cX0_init 223 = .ok (.iinc 1 1, 3) := dk_132 1 1 (dk_at dksX0_init_9 13 rfl rfl)
theorem dX0_init_226 : decode cX0_init 226 = .ok (.goto (-31), 3) := dk_167 255 225 (dk_at dksX0_init_9 16 rfl rfl)
theorem dX0_init_229 : decode cX0_init 229 = .ok (.return_, 1) := dk_177 (dk_at dksX0_init_9 19 rfl rfl)
abbrev cX0_veneer : ByteArray := prog_1_method_26_code
def yX0_veneer : MethodName := ⟨RX0, "veneer", "(IIIIZ)Z"⟩
def dkwX0_veneer_3 : List UInt8 := [21, 4, 79, 42, 180, 0, 187, 27, 21, 5, 84, 4, 172]
abbrev dktX0_veneer_3 : List UInt8 := dkwX0_veneer_3 ++ []
def dkwX0_veneer_2 : List UInt8 := [164, 0, 5, 3, 172, 42, 180, 0, 178, 27, 28, 79, 42, 180, 0, 181, 27, 29, 79, 42, 180, 0, 184, 27]
abbrev dktX0_veneer_2 : List UInt8 := dkwX0_veneer_2 ++ dktX0_veneer_3
def dkwX0_veneer_1 : List UInt8 := [155, 0, 27, 29, 16, 20, 163, 0, 21, 29, 28, 163, 0, 16, 21, 4, 155, 0, 11, 21, 4, 17, 3, 232]
abbrev dktX0_veneer_1 : List UInt8 := dkwX0_veneer_1 ++ dktX0_veneer_2
def dkwX0_veneer_0 : List UInt8 := [27, 155, 0, 48, 27, 16, 6, 162, 0, 42, 28, 4, 161, 0, 37, 28, 16, 90, 163, 0, 31, 29]
abbrev dktX0_veneer_0 : List UInt8 := dkwX0_veneer_0 ++ dktX0_veneer_1
theorem dksX0_veneer_0 : cX0_veneer.data.toList.drop 0 = dktX0_veneer_0 := by decide +kernel
theorem dksX0_veneer_1 : cX0_veneer.data.toList.drop 22 = dktX0_veneer_1 := dk_seg dksX0_veneer_0 22 rfl rfl
theorem dksX0_veneer_2 : cX0_veneer.data.toList.drop 46 = dktX0_veneer_2 := dk_seg dksX0_veneer_1 24 rfl rfl
theorem dksX0_veneer_3 : cX0_veneer.data.toList.drop 70 = dktX0_veneer_3 := dk_seg dksX0_veneer_2 24 rfl rfl
theorem dX0_veneer_0 : decode cX0_veneer 0 = .ok (.iload_n 1, 1) := dk_27 (dk_at dksX0_veneer_0 0 rfl rfl)
theorem dX0_veneer_1 : decode cX0_veneer 1 = .ok (.ifCond .lt 48, 3) := dk_155 0 48 (dk_at dksX0_veneer_0 1 rfl rfl)
theorem dX0_veneer_4 : decode cX0_veneer 4 = .ok (.iload_n 1, 1) := dk_27 (dk_at dksX0_veneer_0 4 rfl rfl)
theorem dX0_veneer_5 : decode cX0_veneer 5 = .ok (.bipush 6, 2) := dk_16 6 (dk_at dksX0_veneer_0 5 rfl rfl)
theorem dX0_veneer_7 : decode cX0_veneer 7 = .ok (.if_icmp .ge 42, 3) := dk_162 0 42 (dk_at dksX0_veneer_0 7 rfl rfl)
theorem dX0_veneer_10 : decode cX0_veneer 10 = .ok (.iload_n 2, 1) := dk_28 (dk_at dksX0_veneer_0 10 rfl rfl)
theorem dX0_veneer_11 : decode cX0_veneer 11 = .ok (.iconst 1, 1) := dk_4 (dk_at dksX0_veneer_0 11 rfl rfl)
theorem dX0_veneer_12 : decode cX0_veneer 12 = .ok (.if_icmp .lt 37, 3) := dk_161 0 37 (dk_at dksX0_veneer_0 12 rfl rfl)
theorem dX0_veneer_15 : decode cX0_veneer 15 = .ok (.iload_n 2, 1) := dk_28 (dk_at dksX0_veneer_0 15 rfl rfl)
theorem dX0_veneer_16 : decode cX0_veneer 16 = .ok (.bipush 90, 2) := dk_16 90 (dk_at dksX0_veneer_0 16 rfl rfl)
theorem dX0_veneer_18 : decode cX0_veneer 18 = .ok (.if_icmp .gt 31, 3) := dk_163 0 31 (dk_at dksX0_veneer_0 18 rfl rfl)
theorem dX0_veneer_21 : decode cX0_veneer 21 = .ok (.iload_n 3, 1) := dk_29 (dk_at dksX0_veneer_0 21 rfl rfl)
theorem dX0_veneer_22 : decode cX0_veneer 22 = .ok (.ifCond .lt 27, 3) := dk_155 0 27 (dk_at dksX0_veneer_1 0 rfl rfl)
theorem dX0_veneer_25 : decode cX0_veneer 25 = .ok (.iload_n 3, 1) := dk_29 (dk_at dksX0_veneer_1 3 rfl rfl)
theorem dX0_veneer_26 : decode cX0_veneer 26 = .ok (.bipush 20, 2) := dk_16 20 (dk_at dksX0_veneer_1 4 rfl rfl)
theorem dX0_veneer_28 : decode cX0_veneer 28 = .ok (.if_icmp .gt 21, 3) := dk_163 0 21 (dk_at dksX0_veneer_1 6 rfl rfl)
theorem dX0_veneer_31 : decode cX0_veneer 31 = .ok (.iload_n 3, 1) := dk_29 (dk_at dksX0_veneer_1 9 rfl rfl)
theorem dX0_veneer_32 : decode cX0_veneer 32 = .ok (.iload_n 2, 1) := dk_28 (dk_at dksX0_veneer_1 10 rfl rfl)
theorem dX0_veneer_33 : decode cX0_veneer 33 = .ok (.if_icmp .gt 16, 3) := dk_163 0 16 (dk_at dksX0_veneer_1 11 rfl rfl)
theorem dX0_veneer_36 : decode cX0_veneer 36 = .ok (.iload 4, 2) := dk_21 4 (dk_at dksX0_veneer_1 14 rfl rfl)
theorem dX0_veneer_38 : decode cX0_veneer 38 = .ok (.ifCond .lt 11, 3) := dk_155 0 11 (dk_at dksX0_veneer_1 16 rfl rfl)
theorem dX0_veneer_41 : decode cX0_veneer 41 = .ok (.iload 4, 2) := dk_21 4 (dk_at dksX0_veneer_1 19 rfl rfl)
theorem dX0_veneer_43 : decode cX0_veneer 43 = .ok (.sipush 1000, 3) := dk_17 3 232 (dk_at dksX0_veneer_1 21 rfl rfl)
theorem dX0_veneer_46 : decode cX0_veneer 46 = .ok (.if_icmp .le 5, 3) := dk_164 0 5 (dk_at dksX0_veneer_2 0 rfl rfl)
theorem dX0_veneer_49 : decode cX0_veneer 49 = .ok (.iconst 0, 1) := dk_3 (dk_at dksX0_veneer_2 3 rfl rfl)
theorem dX0_veneer_50 : decode cX0_veneer 50 = .ok (.ireturn, 1) := dk_172 (dk_at dksX0_veneer_2 4 rfl rfl)
theorem dX0_veneer_51 : decode cX0_veneer 51 = .ok (.aload_n 0, 1) := dk_42 (dk_at dksX0_veneer_2 5 rfl rfl)
theorem dX0_veneer_52 : decode cX0_veneer 52 = .ok (.getfield 178, 3) := dk_180 0 178 (dk_at dksX0_veneer_2 6 rfl rfl)
theorem dX0_veneer_55 : decode cX0_veneer 55 = .ok (.iload_n 1, 1) := dk_27 (dk_at dksX0_veneer_2 9 rfl rfl)
theorem dX0_veneer_56 : decode cX0_veneer 56 = .ok (.iload_n 2, 1) := dk_28 (dk_at dksX0_veneer_2 10 rfl rfl)
theorem dX0_veneer_57 : decode cX0_veneer 57 = .ok (.iastore, 1) := dk_79 (dk_at dksX0_veneer_2 11 rfl rfl)
theorem dX0_veneer_58 : decode cX0_veneer 58 = .ok (.aload_n 0, 1) := dk_42 (dk_at dksX0_veneer_2 12 rfl rfl)
theorem dX0_veneer_59 : decode cX0_veneer 59 = .ok (.getfield 181, 3) := dk_180 0 181 (dk_at dksX0_veneer_2 13 rfl rfl)
theorem dX0_veneer_62 : decode cX0_veneer 62 = .ok (.iload_n 1, 1) := dk_27 (dk_at dksX0_veneer_2 16 rfl rfl)
theorem dX0_veneer_63 : decode cX0_veneer 63 = .ok (.iload_n 3, 1) := dk_29 (dk_at dksX0_veneer_2 17 rfl rfl)
theorem dX0_veneer_64 : decode cX0_veneer 64 = .ok (.iastore, 1) := dk_79 (dk_at dksX0_veneer_2 18 rfl rfl)
theorem dX0_veneer_65 : decode cX0_veneer 65 = .ok (.aload_n 0, 1) := dk_42 (dk_at dksX0_veneer_2 19 rfl rfl)
theorem dX0_veneer_66 : decode cX0_veneer 66 = .ok (.getfield 184, 3) := dk_180 0 184 (dk_at dksX0_veneer_2 20 rfl rfl)
theorem dX0_veneer_69 : decode cX0_veneer 69 = .ok (.iload_n 1, 1) := dk_27 (dk_at dksX0_veneer_2 23 rfl rfl)
theorem dX0_veneer_70 : decode cX0_veneer 70 = .ok (.iload 4, 2) := dk_21 4 (dk_at dksX0_veneer_3 0 rfl rfl)
theorem dX0_veneer_72 : decode cX0_veneer 72 = .ok (.iastore, 1) := dk_79 (dk_at dksX0_veneer_3 2 rfl rfl)
theorem dX0_veneer_73 : decode cX0_veneer 73 = .ok (.aload_n 0, 1) := dk_42 (dk_at dksX0_veneer_3 3 rfl rfl)
theorem dX0_veneer_74 : decode cX0_veneer 74 = .ok (.getfield 187, 3) := dk_180 0 187 (dk_at dksX0_veneer_3 4 rfl rfl)
theorem dX0_veneer_77 : decode cX0_veneer 77 = .ok (.iload_n 1, 1) := dk_27 (dk_at dksX0_veneer_3 7 rfl rfl)
theorem dX0_veneer_78 : decode cX0_veneer 78 = .ok (.iload 5, 2) := dk_21 5 (dk_at dksX0_veneer_3 8 rfl rfl)
theorem dX0_veneer_80 : decode cX0_veneer 80 = .ok (.bastore, 1) := dk_84 (dk_at dksX0_veneer_3 10 rfl rfl)
theorem dX0_veneer_81 : decode cX0_veneer 81 = .ok (.iconst 1, 1) := dk_4 (dk_at dksX0_veneer_3 11 rfl rfl)
theorem dX0_veneer_82 : decode cX0_veneer 82 = .ok (.ireturn, 1) := dk_172 (dk_at dksX0_veneer_3 12 rfl rfl)
abbrev cX0_board : ByteArray := prog_1_method_31_code
def yX0_board : MethodName := ⟨RX0, "board", "(III)I"⟩
def dkwX0_board_2 : List UInt8 := [182, 0, 228, 167, 0, 4, 2, 172]
abbrev dktX0_board_2 : List UInt8 := dkwX0_board_2 ++ []
def dkwX0_board_1 : List UInt8 := [29, 4, 160, 0, 13, 42, 27, 28, 4, 182, 0, 224, 167, 0, 18, 29, 5, 160, 0, 12, 42, 27, 28]
abbrev dktX0_board_1 : List UInt8 := dkwX0_board_1 ++ dktX0_board_2
def dkwX0_board_0 : List UInt8 := [27, 28, 184, 0, 221, 154, 0, 5, 2, 172, 29, 154, 0, 13, 42, 27, 28, 2, 182, 0, 224, 167, 0, 33]
abbrev dktX0_board_0 : List UInt8 := dkwX0_board_0 ++ dktX0_board_1
theorem dksX0_board_0 : cX0_board.data.toList.drop 0 = dktX0_board_0 := by decide +kernel
theorem dksX0_board_1 : cX0_board.data.toList.drop 24 = dktX0_board_1 := dk_seg dksX0_board_0 24 rfl rfl
theorem dksX0_board_2 : cX0_board.data.toList.drop 47 = dktX0_board_2 := dk_seg dksX0_board_1 23 rfl rfl
theorem dX0_board_0 : decode cX0_board 0 = .ok (.iload_n 1, 1) := dk_27 (dk_at dksX0_board_0 0 rfl rfl)
theorem dX0_board_1 : decode cX0_board 1 = .ok (.iload_n 2, 1) := dk_28 (dk_at dksX0_board_0 1 rfl rfl)
theorem dX0_board_2 : decode cX0_board 2 = .ok (.invokestatic 221, 3) := dk_184 0 221 (dk_at dksX0_board_0 2 rfl rfl)
theorem dX0_board_5 : decode cX0_board 5 = .ok (.ifCond .ne 5, 3) := dk_154 0 5 (dk_at dksX0_board_0 5 rfl rfl)
theorem dX0_board_8 : decode cX0_board 8 = .ok (.iconst (-1), 1) := dk_2 (dk_at dksX0_board_0 8 rfl rfl)
theorem dX0_board_9 : decode cX0_board 9 = .ok (.ireturn, 1) := dk_172 (dk_at dksX0_board_0 9 rfl rfl)
theorem dX0_board_10 : decode cX0_board 10 = .ok (.iload_n 3, 1) := dk_29 (dk_at dksX0_board_0 10 rfl rfl)
theorem dX0_board_11 : decode cX0_board 11 = .ok (.ifCond .ne 13, 3) := dk_154 0 13 (dk_at dksX0_board_0 11 rfl rfl)
theorem dX0_board_14 : decode cX0_board 14 = .ok (.aload_n 0, 1) := dk_42 (dk_at dksX0_board_0 14 rfl rfl)
theorem dX0_board_15 : decode cX0_board 15 = .ok (.iload_n 1, 1) := dk_27 (dk_at dksX0_board_0 15 rfl rfl)
theorem dX0_board_16 : decode cX0_board 16 = .ok (.iload_n 2, 1) := dk_28 (dk_at dksX0_board_0 16 rfl rfl)
theorem dX0_board_17 : decode cX0_board 17 = .ok (.iconst (-1), 1) := dk_2 (dk_at dksX0_board_0 17 rfl rfl)
theorem dX0_board_18 : decode cX0_board 18 = .ok (.invokevirtual 224, 3) := dk_182 0 224 (dk_at dksX0_board_0 18 rfl rfl)
theorem dX0_board_21 : decode cX0_board 21 = .ok (.goto 33, 3) := dk_167 0 33 (dk_at dksX0_board_0 21 rfl rfl)
theorem dX0_board_24 : decode cX0_board 24 = .ok (.iload_n 3, 1) := dk_29 (dk_at dksX0_board_1 0 rfl rfl)
theorem dX0_board_25 : decode cX0_board 25 = .ok (.iconst 1, 1) := dk_4 (dk_at dksX0_board_1 1 rfl rfl)
theorem dX0_board_26 : decode cX0_board 26 = .ok (.if_icmp .ne 13, 3) := dk_160 0 13 (dk_at dksX0_board_1 2 rfl rfl)
theorem dX0_board_29 : decode cX0_board 29 = .ok (.aload_n 0, 1) := dk_42 (dk_at dksX0_board_1 5 rfl rfl)
theorem dX0_board_30 : decode cX0_board 30 = .ok (.iload_n 1, 1) := dk_27 (dk_at dksX0_board_1 6 rfl rfl)
theorem dX0_board_31 : decode cX0_board 31 = .ok (.iload_n 2, 1) := dk_28 (dk_at dksX0_board_1 7 rfl rfl)
theorem dX0_board_32 : decode cX0_board 32 = .ok (.iconst 1, 1) := dk_4 (dk_at dksX0_board_1 8 rfl rfl)
theorem dX0_board_33 : decode cX0_board 33 = .ok (.invokevirtual 224, 3) := dk_182 0 224 (dk_at dksX0_board_1 9 rfl rfl)
theorem dX0_board_36 : decode cX0_board 36 = .ok (.goto 18, 3) := dk_167 0 18 (dk_at dksX0_board_1 12 rfl rfl)
theorem dX0_board_39 : decode cX0_board 39 = .ok (.iload_n 3, 1) := dk_29 (dk_at dksX0_board_1 15 rfl rfl)
theorem dX0_board_40 : decode cX0_board 40 = .ok (.iconst 2, 1) := dk_5 (dk_at dksX0_board_1 16 rfl rfl)
theorem dX0_board_41 : decode cX0_board 41 = .ok (.if_icmp .ne 12, 3) := dk_160 0 12 (dk_at dksX0_board_1 17 rfl rfl)
theorem dX0_board_44 : decode cX0_board 44 = .ok (.aload_n 0, 1) := dk_42 (dk_at dksX0_board_1 20 rfl rfl)
theorem dX0_board_45 : decode cX0_board 45 = .ok (.iload_n 1, 1) := dk_27 (dk_at dksX0_board_1 21 rfl rfl)
theorem dX0_board_46 : decode cX0_board 46 = .ok (.iload_n 2, 1) := dk_28 (dk_at dksX0_board_1 22 rfl rfl)
theorem dX0_board_47 : decode cX0_board 47 = .ok (.invokevirtual 228, 3) := dk_182 0 228 (dk_at dksX0_board_2 0 rfl rfl)
theorem dX0_board_50 : decode cX0_board 50 = .ok (.goto 4, 3) := dk_167 0 4 (dk_at dksX0_board_2 3 rfl rfl)
theorem dX0_board_53 : decode cX0_board 53 = .ok (.iconst (-1), 1) := dk_2 (dk_at dksX0_board_2 6 rfl rfl)
theorem dX0_board_54 : decode cX0_board 54 = .ok (.ireturn, 1) := dk_172 (dk_at dksX0_board_2 7 rfl rfl)
abbrev cX0_isBoard : ByteArray := prog_1_method_28_code
def yX0_isBoard : MethodName := ⟨RX0, "isBoard", "(II)Z"⟩
def dkwX0_isBoard_2 : List UInt8 := [167, 255, 236, 4, 172]
abbrev dktX0_isBoard_2 : List UInt8 := dkwX0_isBoard_2 ++ []
def dkwX0_isBoard_1 : List UInt8 := [3, 172, 3, 61, 28, 26, 162, 0, 21, 27, 28, 184, 0, 218, 16, 6, 161, 0, 5, 3, 172, 132, 2, 1]
abbrev dktX0_isBoard_1 : List UInt8 := dkwX0_isBoard_1 ++ dktX0_isBoard_2
def dkwX0_isBoard_0 : List UInt8 := [26, 4, 161, 0, 22, 26, 16, 9, 163, 0, 16, 27, 155, 0, 12, 27, 4, 6, 26, 104, 120, 161, 0, 5]
abbrev dktX0_isBoard_0 : List UInt8 := dkwX0_isBoard_0 ++ dktX0_isBoard_1
theorem dksX0_isBoard_0 : cX0_isBoard.data.toList.drop 0 = dktX0_isBoard_0 := by decide +kernel
theorem dksX0_isBoard_1 : cX0_isBoard.data.toList.drop 24 = dktX0_isBoard_1 := dk_seg dksX0_isBoard_0 24 rfl rfl
theorem dksX0_isBoard_2 : cX0_isBoard.data.toList.drop 48 = dktX0_isBoard_2 := dk_seg dksX0_isBoard_1 24 rfl rfl
theorem dX0_isBoard_0 : decode cX0_isBoard 0 = .ok (.iload_n 0, 1) := dk_26 (dk_at dksX0_isBoard_0 0 rfl rfl)
theorem dX0_isBoard_1 : decode cX0_isBoard 1 = .ok (.iconst 1, 1) := dk_4 (dk_at dksX0_isBoard_0 1 rfl rfl)
theorem dX0_isBoard_2 : decode cX0_isBoard 2 = .ok (.if_icmp .lt 22, 3) := dk_161 0 22 (dk_at dksX0_isBoard_0 2 rfl rfl)
theorem dX0_isBoard_5 : decode cX0_isBoard 5 = .ok (.iload_n 0, 1) := dk_26 (dk_at dksX0_isBoard_0 5 rfl rfl)
theorem dX0_isBoard_6 : decode cX0_isBoard 6 = .ok (.bipush 9, 2) := dk_16 9 (dk_at dksX0_isBoard_0 6 rfl rfl)
theorem dX0_isBoard_8 : decode cX0_isBoard 8 = .ok (.if_icmp .gt 16, 3) := dk_163 0 16 (dk_at dksX0_isBoard_0 8 rfl rfl)
theorem dX0_isBoard_11 : decode cX0_isBoard 11 = .ok (.iload_n 1, 1) := dk_27 (dk_at dksX0_isBoard_0 11 rfl rfl)
theorem dX0_isBoard_12 : decode cX0_isBoard 12 = .ok (.ifCond .lt 12, 3) := dk_155 0 12 (dk_at dksX0_isBoard_0 12 rfl rfl)
theorem dX0_isBoard_15 : decode cX0_isBoard 15 = .ok (.iload_n 1, 1) := dk_27 (dk_at dksX0_isBoard_0 15 rfl rfl)
theorem dX0_isBoard_16 : decode cX0_isBoard 16 = .ok (.iconst 1, 1) := dk_4 (dk_at dksX0_isBoard_0 16 rfl rfl)
theorem dX0_isBoard_17 : decode cX0_isBoard 17 = .ok (.iconst 3, 1) := dk_6 (dk_at dksX0_isBoard_0 17 rfl rfl)
theorem dX0_isBoard_18 : decode cX0_isBoard 18 = .ok (.iload_n 0, 1) := dk_26 (dk_at dksX0_isBoard_0 18 rfl rfl)
theorem dX0_isBoard_19 : decode cX0_isBoard 19 = .ok (.imul, 1) := dk_104 (dk_at dksX0_isBoard_0 19 rfl rfl)
theorem dX0_isBoard_20 : decode cX0_isBoard 20 = .ok (.ishl, 1) := dk_120 (dk_at dksX0_isBoard_0 20 rfl rfl)
theorem dX0_isBoard_21 : decode cX0_isBoard 21 = .ok (.if_icmp .lt 5, 3) := dk_161 0 5 (dk_at dksX0_isBoard_0 21 rfl rfl)
theorem dX0_isBoard_24 : decode cX0_isBoard 24 = .ok (.iconst 0, 1) := dk_3 (dk_at dksX0_isBoard_1 0 rfl rfl)
theorem dX0_isBoard_25 : decode cX0_isBoard 25 = .ok (.ireturn, 1) := dk_172 (dk_at dksX0_isBoard_1 1 rfl rfl)
theorem dX0_isBoard_26 : decode cX0_isBoard 26 = .ok (.iconst 0, 1) := dk_3 (dk_at dksX0_isBoard_1 2 rfl rfl)
theorem dX0_isBoard_27 : decode cX0_isBoard 27 = .ok (.istore_n 2, 1) := dk_61 (dk_at dksX0_isBoard_1 3 rfl rfl)
theorem dX0_isBoard_28 : decode cX0_isBoard 28 = .ok (.iload_n 2, 1) := dk_28 (dk_at dksX0_isBoard_1 4 rfl rfl)
theorem dX0_isBoard_29 : decode cX0_isBoard 29 = .ok (.iload_n 0, 1) := dk_26 (dk_at dksX0_isBoard_1 5 rfl rfl)
theorem dX0_isBoard_30 : decode cX0_isBoard 30 = .ok (.if_icmp .ge 21, 3) := dk_162 0 21 (dk_at dksX0_isBoard_1 6 rfl rfl)
theorem dX0_isBoard_33 : decode cX0_isBoard 33 = .ok (.iload_n 1, 1) := dk_27 (dk_at dksX0_isBoard_1 9 rfl rfl)
theorem dX0_isBoard_34 : decode cX0_isBoard 34 = .ok (.iload_n 2, 1) := dk_28 (dk_at dksX0_isBoard_1 10 rfl rfl)
theorem dX0_isBoard_35 : decode cX0_isBoard 35 = .ok (.invokestatic 218, 3) := dk_184 0 218 (dk_at dksX0_isBoard_1 11 rfl rfl)
theorem dX0_isBoard_38 : decode cX0_isBoard 38 = .ok (.bipush 6, 2) := dk_16 6 (dk_at dksX0_isBoard_1 14 rfl rfl)
theorem dX0_isBoard_40 : decode cX0_isBoard 40 = .ok (.if_icmp .lt 5, 3) := dk_161 0 5 (dk_at dksX0_isBoard_1 16 rfl rfl)
theorem dX0_isBoard_43 : decode cX0_isBoard 43 = .ok (.iconst 0, 1) := dk_3 (dk_at dksX0_isBoard_1 19 rfl rfl)
theorem dX0_isBoard_44 : decode cX0_isBoard 44 = .ok (.ireturn, 1) := dk_172 (dk_at dksX0_isBoard_1 20 rfl rfl)
theorem dX0_isBoard_45 : decode cX0_isBoard 45 = .ok (.iinc 2 1, 3) := dk_132 2 1 (dk_at dksX0_isBoard_1 21 rfl rfl)
theorem dX0_isBoard_48 : decode cX0_isBoard 48 = .ok (.goto (-20), 3) := dk_167 255 236 (dk_at dksX0_isBoard_2 0 rfl rfl)
theorem dX0_isBoard_51 : decode cX0_isBoard 51 = .ok (.iconst 1, 1) := dk_4 (dk_at dksX0_isBoard_2 3 rfl rfl)
theorem dX0_isBoard_52 : decode cX0_isBoard 52 = .ok (.ireturn, 1) := dk_172 (dk_at dksX0_isBoard_2 4 rfl rfl)
abbrev cX0_kindOf : ByteArray := prog_1_method_27_code
def yX0_kindOf : MethodName := ⟨RX0, "kindOf", "(II)I"⟩
def dkwX0_kindOf_0 : List UInt8 := [26, 6, 27, 104, 122, 16, 7, 126, 172]
abbrev dktX0_kindOf_0 : List UInt8 := dkwX0_kindOf_0 ++ []
theorem dksX0_kindOf_0 : cX0_kindOf.data.toList.drop 0 = dktX0_kindOf_0 := by decide +kernel
theorem dX0_kindOf_0 : decode cX0_kindOf 0 = .ok (.iload_n 0, 1) := dk_26 (dk_at dksX0_kindOf_0 0 rfl rfl)
theorem dX0_kindOf_1 : decode cX0_kindOf 1 = .ok (.iconst 3, 1) := dk_6 (dk_at dksX0_kindOf_0 1 rfl rfl)
theorem dX0_kindOf_2 : decode cX0_kindOf 2 = .ok (.iload_n 1, 1) := dk_27 (dk_at dksX0_kindOf_0 2 rfl rfl)
theorem dX0_kindOf_3 : decode cX0_kindOf 3 = .ok (.imul, 1) := dk_104 (dk_at dksX0_kindOf_0 3 rfl rfl)
theorem dX0_kindOf_4 : decode cX0_kindOf 4 = .ok (.ishr, 1) := dk_122 (dk_at dksX0_kindOf_0 4 rfl rfl)
theorem dX0_kindOf_5 : decode cX0_kindOf 5 = .ok (.bipush 7, 2) := dk_16 7 (dk_at dksX0_kindOf_0 5 rfl rfl)
theorem dX0_kindOf_7 : decode cX0_kindOf 7 = .ok (.iand, 1) := dk_126 (dk_at dksX0_kindOf_0 7 rfl rfl)
theorem dX0_kindOf_8 : decode cX0_kindOf 8 = .ok (.ireturn, 1) := dk_172 (dk_at dksX0_kindOf_0 8 rfl rfl)
abbrev cX0_thick : ByteArray := prog_1_method_29_code
def yX0_thick : MethodName := ⟨RX0, "thick", "(III)I"⟩
def dkwX0_thick_2 : List UInt8 := [21, 4, 172]
abbrev dktX0_thick_2 : List UInt8 := dkwX0_thick_2 ++ []
def dkwX0_thick_1 : List UInt8 := [46, 29, 42, 180, 0, 181, 28, 21, 5, 184, 0, 218, 46, 104, 96, 96, 54, 4, 132, 5, 1, 167, 255, 217]
abbrev dktX0_thick_1 : List UInt8 := dkwX0_thick_1 ++ dktX0_thick_2
def dkwX0_thick_0 : List UInt8 := [3, 54, 4, 3, 54, 5, 21, 5, 27, 162, 0, 39, 21, 4, 42, 180, 0, 178, 28, 21, 5, 184, 0, 218]
abbrev dktX0_thick_0 : List UInt8 := dkwX0_thick_0 ++ dktX0_thick_1
theorem dksX0_thick_0 : cX0_thick.data.toList.drop 0 = dktX0_thick_0 := by decide +kernel
theorem dksX0_thick_1 : cX0_thick.data.toList.drop 24 = dktX0_thick_1 := dk_seg dksX0_thick_0 24 rfl rfl
theorem dksX0_thick_2 : cX0_thick.data.toList.drop 48 = dktX0_thick_2 := dk_seg dksX0_thick_1 24 rfl rfl
theorem dX0_thick_0 : decode cX0_thick 0 = .ok (.iconst 0, 1) := dk_3 (dk_at dksX0_thick_0 0 rfl rfl)
theorem dX0_thick_1 : decode cX0_thick 1 = .ok (.istore 4, 2) := dk_54 4 (dk_at dksX0_thick_0 1 rfl rfl)
theorem dX0_thick_3 : decode cX0_thick 3 = .ok (.iconst 0, 1) := dk_3 (dk_at dksX0_thick_0 3 rfl rfl)
theorem dX0_thick_4 : decode cX0_thick 4 = .ok (.istore 5, 2) := dk_54 5 (dk_at dksX0_thick_0 4 rfl rfl)
theorem dX0_thick_6 : decode cX0_thick 6 = .ok (.iload 5, 2) := dk_21 5 (dk_at dksX0_thick_0 6 rfl rfl)
theorem dX0_thick_8 : decode cX0_thick 8 = .ok (.iload_n 1, 1) := dk_27 (dk_at dksX0_thick_0 8 rfl rfl)
theorem dX0_thick_9 : decode cX0_thick 9 = .ok (.if_icmp .ge 39, 3) := dk_162 0 39 (dk_at dksX0_thick_0 9 rfl rfl)
theorem dX0_thick_12 : decode cX0_thick 12 = .ok (.iload 4, 2) := dk_21 4 (dk_at dksX0_thick_0 12 rfl rfl)
theorem dX0_thick_14 : decode cX0_thick 14 = .ok (.aload_n 0, 1) := dk_42 (dk_at dksX0_thick_0 14 rfl rfl)
theorem dX0_thick_15 : decode cX0_thick 15 = .ok (.getfield 178, 3) := dk_180 0 178 (dk_at dksX0_thick_0 15 rfl rfl)
theorem dX0_thick_18 : decode cX0_thick 18 = .ok (.iload_n 2, 1) := dk_28 (dk_at dksX0_thick_0 18 rfl rfl)
theorem dX0_thick_19 : decode cX0_thick 19 = .ok (.iload 5, 2) := dk_21 5 (dk_at dksX0_thick_0 19 rfl rfl)
theorem dX0_thick_21 : decode cX0_thick 21 = .ok (.invokestatic 218, 3) := dk_184 0 218 (dk_at dksX0_thick_0 21 rfl rfl)
theorem dX0_thick_24 : decode cX0_thick 24 = .ok (.iaload, 1) := dk_46 (dk_at dksX0_thick_1 0 rfl rfl)
theorem dX0_thick_25 : decode cX0_thick 25 = .ok (.iload_n 3, 1) := dk_29 (dk_at dksX0_thick_1 1 rfl rfl)
theorem dX0_thick_26 : decode cX0_thick 26 = .ok (.aload_n 0, 1) := dk_42 (dk_at dksX0_thick_1 2 rfl rfl)
theorem dX0_thick_27 : decode cX0_thick 27 = .ok (.getfield 181, 3) := dk_180 0 181 (dk_at dksX0_thick_1 3 rfl rfl)
theorem dX0_thick_30 : decode cX0_thick 30 = .ok (.iload_n 2, 1) := dk_28 (dk_at dksX0_thick_1 6 rfl rfl)
theorem dX0_thick_31 : decode cX0_thick 31 = .ok (.iload 5, 2) := dk_21 5 (dk_at dksX0_thick_1 7 rfl rfl)
theorem dX0_thick_33 : decode cX0_thick 33 = .ok (.invokestatic 218, 3) := dk_184 0 218 (dk_at dksX0_thick_1 9 rfl rfl)
theorem dX0_thick_36 : decode cX0_thick 36 = .ok (.iaload, 1) := dk_46 (dk_at dksX0_thick_1 12 rfl rfl)
theorem dX0_thick_37 : decode cX0_thick 37 = .ok (.imul, 1) := dk_104 (dk_at dksX0_thick_1 13 rfl rfl)
theorem dX0_thick_38 : decode cX0_thick 38 = .ok (.iadd, 1) := dk_96 (dk_at dksX0_thick_1 14 rfl rfl)
theorem dX0_thick_39 : decode cX0_thick 39 = .ok (.iadd, 1) := dk_96 (dk_at dksX0_thick_1 15 rfl rfl)
theorem dX0_thick_40 : decode cX0_thick 40 = .ok (.istore 4, 2) := dk_54 4 (dk_at dksX0_thick_1 16 rfl rfl)
theorem dX0_thick_42 : decode cX0_thick 42 = .ok (.iinc 5 1, 3) := dk_132 5 1 (dk_at dksX0_thick_1 18 rfl rfl)
theorem dX0_thick_45 : decode cX0_thick 45 = .ok (.goto (-39), 3) := dk_167 255 217 (dk_at dksX0_thick_1 21 rfl rfl)
theorem dX0_thick_48 : decode cX0_thick 48 = .ok (.iload 4, 2) := dk_21 4 (dk_at dksX0_thick_2 0 rfl rfl)
theorem dX0_thick_50 : decode cX0_thick 50 = .ok (.ireturn, 1) := dk_172 (dk_at dksX0_thick_2 2 rfl rfl)
abbrev cX0_price : ByteArray := prog_1_method_30_code
def yX0_price : MethodName := ⟨RX0, "price", "(II)I"⟩
def dkwX0_price_1 : List UInt8 := [62, 132, 4, 1, 167, 255, 233, 29, 172]
abbrev dktX0_price_1 : List UInt8 := dkwX0_price_1 ++ []
def dkwX0_price_0 : List UInt8 := [3, 62, 3, 54, 4, 21, 4, 27, 162, 0, 23, 29, 42, 180, 0, 184, 28, 21, 4, 184, 0, 218, 46, 96]
abbrev dktX0_price_0 : List UInt8 := dkwX0_price_0 ++ dktX0_price_1
theorem dksX0_price_0 : cX0_price.data.toList.drop 0 = dktX0_price_0 := by decide +kernel
theorem dksX0_price_1 : cX0_price.data.toList.drop 24 = dktX0_price_1 := dk_seg dksX0_price_0 24 rfl rfl
theorem dX0_price_0 : decode cX0_price 0 = .ok (.iconst 0, 1) := dk_3 (dk_at dksX0_price_0 0 rfl rfl)
theorem dX0_price_1 : decode cX0_price 1 = .ok (.istore_n 3, 1) := dk_62 (dk_at dksX0_price_0 1 rfl rfl)
theorem dX0_price_2 : decode cX0_price 2 = .ok (.iconst 0, 1) := dk_3 (dk_at dksX0_price_0 2 rfl rfl)
theorem dX0_price_3 : decode cX0_price 3 = .ok (.istore 4, 2) := dk_54 4 (dk_at dksX0_price_0 3 rfl rfl)
theorem dX0_price_5 : decode cX0_price 5 = .ok (.iload 4, 2) := dk_21 4 (dk_at dksX0_price_0 5 rfl rfl)
theorem dX0_price_7 : decode cX0_price 7 = .ok (.iload_n 1, 1) := dk_27 (dk_at dksX0_price_0 7 rfl rfl)
theorem dX0_price_8 : decode cX0_price 8 = .ok (.if_icmp .ge 23, 3) := dk_162 0 23 (dk_at dksX0_price_0 8 rfl rfl)
theorem dX0_price_11 : decode cX0_price 11 = .ok (.iload_n 3, 1) := dk_29 (dk_at dksX0_price_0 11 rfl rfl)
theorem dX0_price_12 : decode cX0_price 12 = .ok (.aload_n 0, 1) := dk_42 (dk_at dksX0_price_0 12 rfl rfl)
theorem dX0_price_13 : decode cX0_price 13 = .ok (.getfield 184, 3) := dk_180 0 184 (dk_at dksX0_price_0 13 rfl rfl)
theorem dX0_price_16 : decode cX0_price 16 = .ok (.iload_n 2, 1) := dk_28 (dk_at dksX0_price_0 16 rfl rfl)
theorem dX0_price_17 : decode cX0_price 17 = .ok (.iload 4, 2) := dk_21 4 (dk_at dksX0_price_0 17 rfl rfl)
theorem dX0_price_19 : decode cX0_price 19 = .ok (.invokestatic 218, 3) := dk_184 0 218 (dk_at dksX0_price_0 19 rfl rfl)
theorem dX0_price_22 : decode cX0_price 22 = .ok (.iaload, 1) := dk_46 (dk_at dksX0_price_0 22 rfl rfl)
theorem dX0_price_23 : decode cX0_price 23 = .ok (.iadd, 1) := dk_96 (dk_at dksX0_price_0 23 rfl rfl)
theorem dX0_price_24 : decode cX0_price 24 = .ok (.istore_n 3, 1) := dk_62 (dk_at dksX0_price_1 0 rfl rfl)
theorem dX0_price_25 : decode cX0_price 25 = .ok (.iinc 4 1, 3) := dk_132 4 1 (dk_at dksX0_price_1 1 rfl rfl)
theorem dX0_price_28 : decode cX0_price 28 = .ok (.goto (-23), 3) := dk_167 255 233 (dk_at dksX0_price_1 4 rfl rfl)
theorem dX0_price_31 : decode cX0_price 31 = .ok (.iload_n 3, 1) := dk_29 (dk_at dksX0_price_1 7 rfl rfl)
theorem dX0_price_32 : decode cX0_price 32 = .ok (.ireturn, 1) := dk_172 (dk_at dksX0_price_1 8 rfl rfl)
abbrev cX0_warp : ByteArray := prog_1_method_32_code
def yX0_warp : MethodName := ⟨RX0, "warp", "(II)I"⟩
def dkwX0_warp_4 : List UInt8 := [167, 255, 192, 21, 5, 172]
abbrev dktX0_warp_4 : List UInt8 := dkwX0_warp_4 ++ []
def dkwX0_warp_3 : List UInt8 := [21, 7, 104, 21, 4, 21, 8, 100, 104, 96, 54, 5, 21, 4, 21, 7, 96, 54, 4, 132, 6, 1]
abbrev dktX0_warp_3 : List UInt8 := dkwX0_warp_3 ++ dktX0_warp_4
def dkwX0_warp_2 : List UInt8 := [29, 21, 4, 100, 21, 7, 100, 54, 8, 21, 5, 21, 6, 5, 112, 154, 0, 7, 4, 167, 0, 4, 2]
abbrev dktX0_warp_2 : List UInt8 := dkwX0_warp_2 ++ dktX0_warp_3
def dkwX0_warp_1 : List UInt8 := [54, 5, 3, 54, 6, 21, 6, 27, 162, 0, 64, 42, 180, 0, 178, 28, 21, 6, 184, 0, 218, 46, 54, 7]
abbrev dktX0_warp_1 : List UInt8 := dkwX0_warp_1 ++ dktX0_warp_2
def dkwX0_warp_0 : List UInt8 := [27, 28, 184, 0, 221, 154, 0, 6, 18, 231, 172, 42, 27, 28, 3, 182, 0, 224, 62, 3, 54, 4, 3]
abbrev dktX0_warp_0 : List UInt8 := dkwX0_warp_0 ++ dktX0_warp_1
theorem dksX0_warp_0 : cX0_warp.data.toList.drop 0 = dktX0_warp_0 := by decide +kernel
theorem dksX0_warp_1 : cX0_warp.data.toList.drop 23 = dktX0_warp_1 := dk_seg dksX0_warp_0 23 rfl rfl
theorem dksX0_warp_2 : cX0_warp.data.toList.drop 47 = dktX0_warp_2 := dk_seg dksX0_warp_1 24 rfl rfl
theorem dksX0_warp_3 : cX0_warp.data.toList.drop 70 = dktX0_warp_3 := dk_seg dksX0_warp_2 23 rfl rfl
theorem dksX0_warp_4 : cX0_warp.data.toList.drop 92 = dktX0_warp_4 := dk_seg dksX0_warp_3 22 rfl rfl
theorem dX0_warp_0 : decode cX0_warp 0 = .ok (.iload_n 1, 1) := dk_27 (dk_at dksX0_warp_0 0 rfl rfl)
theorem dX0_warp_1 : decode cX0_warp 1 = .ok (.iload_n 2, 1) := dk_28 (dk_at dksX0_warp_0 1 rfl rfl)
theorem dX0_warp_2 : decode cX0_warp 2 = .ok (.invokestatic 221, 3) := dk_184 0 221 (dk_at dksX0_warp_0 2 rfl rfl)
theorem dX0_warp_5 : decode cX0_warp 5 = .ok (.ifCond .ne 6, 3) := dk_154 0 6 (dk_at dksX0_warp_0 5 rfl rfl)
theorem dX0_warp_8 : decode cX0_warp 8 = .ok (.ldc 231, 2) := dk_18 231 (dk_at dksX0_warp_0 8 rfl rfl)
theorem dX0_warp_10 : decode cX0_warp 10 = .ok (.ireturn, 1) := dk_172 (dk_at dksX0_warp_0 10 rfl rfl)
theorem dX0_warp_11 : decode cX0_warp 11 = .ok (.aload_n 0, 1) := dk_42 (dk_at dksX0_warp_0 11 rfl rfl)
theorem dX0_warp_12 : decode cX0_warp 12 = .ok (.iload_n 1, 1) := dk_27 (dk_at dksX0_warp_0 12 rfl rfl)
theorem dX0_warp_13 : decode cX0_warp 13 = .ok (.iload_n 2, 1) := dk_28 (dk_at dksX0_warp_0 13 rfl rfl)
theorem dX0_warp_14 : decode cX0_warp 14 = .ok (.iconst 0, 1) := dk_3 (dk_at dksX0_warp_0 14 rfl rfl)
theorem dX0_warp_15 : decode cX0_warp 15 = .ok (.invokevirtual 224, 3) := dk_182 0 224 (dk_at dksX0_warp_0 15 rfl rfl)
theorem dX0_warp_18 : decode cX0_warp 18 = .ok (.istore_n 3, 1) := dk_62 (dk_at dksX0_warp_0 18 rfl rfl)
theorem dX0_warp_19 : decode cX0_warp 19 = .ok (.iconst 0, 1) := dk_3 (dk_at dksX0_warp_0 19 rfl rfl)
theorem dX0_warp_20 : decode cX0_warp 20 = .ok (.istore 4, 2) := dk_54 4 (dk_at dksX0_warp_0 20 rfl rfl)
theorem dX0_warp_22 : decode cX0_warp 22 = .ok (.iconst 0, 1) := dk_3 (dk_at dksX0_warp_0 22 rfl rfl)
theorem dX0_warp_23 : decode cX0_warp 23 = .ok (.istore 5, 2) := dk_54 5 (dk_at dksX0_warp_1 0 rfl rfl)
theorem dX0_warp_25 : decode cX0_warp 25 = .ok (.iconst 0, 1) := dk_3 (dk_at dksX0_warp_1 2 rfl rfl)
theorem dX0_warp_26 : decode cX0_warp 26 = .ok (.istore 6, 2) := dk_54 6 (dk_at dksX0_warp_1 3 rfl rfl)
theorem dX0_warp_28 : decode cX0_warp 28 = .ok (.iload 6, 2) := dk_21 6 (dk_at dksX0_warp_1 5 rfl rfl)
theorem dX0_warp_30 : decode cX0_warp 30 = .ok (.iload_n 1, 1) := dk_27 (dk_at dksX0_warp_1 7 rfl rfl)
theorem dX0_warp_31 : decode cX0_warp 31 = .ok (.if_icmp .ge 64, 3) := dk_162 0 64 (dk_at dksX0_warp_1 8 rfl rfl)
theorem dX0_warp_34 : decode cX0_warp 34 = .ok (.aload_n 0, 1) := dk_42 (dk_at dksX0_warp_1 11 rfl rfl)
theorem dX0_warp_35 : decode cX0_warp 35 = .ok (.getfield 178, 3) := dk_180 0 178 (dk_at dksX0_warp_1 12 rfl rfl)
theorem dX0_warp_38 : decode cX0_warp 38 = .ok (.iload_n 2, 1) := dk_28 (dk_at dksX0_warp_1 15 rfl rfl)
theorem dX0_warp_39 : decode cX0_warp 39 = .ok (.iload 6, 2) := dk_21 6 (dk_at dksX0_warp_1 16 rfl rfl)
theorem dX0_warp_41 : decode cX0_warp 41 = .ok (.invokestatic 218, 3) := dk_184 0 218 (dk_at dksX0_warp_1 18 rfl rfl)
theorem dX0_warp_44 : decode cX0_warp 44 = .ok (.iaload, 1) := dk_46 (dk_at dksX0_warp_1 21 rfl rfl)
theorem dX0_warp_45 : decode cX0_warp 45 = .ok (.istore 7, 2) := dk_54 7 (dk_at dksX0_warp_1 22 rfl rfl)
theorem dX0_warp_47 : decode cX0_warp 47 = .ok (.iload_n 3, 1) := dk_29 (dk_at dksX0_warp_2 0 rfl rfl)
theorem dX0_warp_48 : decode cX0_warp 48 = .ok (.iload 4, 2) := dk_21 4 (dk_at dksX0_warp_2 1 rfl rfl)
theorem dX0_warp_50 : decode cX0_warp 50 = .ok (.isub, 1) := dk_100 (dk_at dksX0_warp_2 3 rfl rfl)
theorem dX0_warp_51 : decode cX0_warp 51 = .ok (.iload 7, 2) := dk_21 7 (dk_at dksX0_warp_2 4 rfl rfl)
theorem dX0_warp_53 : decode cX0_warp 53 = .ok (.isub, 1) := dk_100 (dk_at dksX0_warp_2 6 rfl rfl)
theorem dX0_warp_54 : decode cX0_warp 54 = .ok (.istore 8, 2) := dk_54 8 (dk_at dksX0_warp_2 7 rfl rfl)
theorem dX0_warp_56 : decode cX0_warp 56 = .ok (.iload 5, 2) := dk_21 5 (dk_at dksX0_warp_2 9 rfl rfl)
theorem dX0_warp_58 : decode cX0_warp 58 = .ok (.iload 6, 2) := dk_21 6 (dk_at dksX0_warp_2 11 rfl rfl)
theorem dX0_warp_60 : decode cX0_warp 60 = .ok (.iconst 2, 1) := dk_5 (dk_at dksX0_warp_2 13 rfl rfl)
theorem dX0_warp_61 : decode cX0_warp 61 = .ok (.irem, 1) := dk_112 (dk_at dksX0_warp_2 14 rfl rfl)
theorem dX0_warp_62 : decode cX0_warp 62 = .ok (.ifCond .ne 7, 3) := dk_154 0 7 (dk_at dksX0_warp_2 15 rfl rfl)
theorem dX0_warp_65 : decode cX0_warp 65 = .ok (.iconst 1, 1) := dk_4 (dk_at dksX0_warp_2 18 rfl rfl)
theorem dX0_warp_66 : decode cX0_warp 66 = .ok (.goto 4, 3) := dk_167 0 4 (dk_at dksX0_warp_2 19 rfl rfl)
theorem dX0_warp_69 : decode cX0_warp 69 = .ok (.iconst (-1), 1) := dk_2 (dk_at dksX0_warp_2 22 rfl rfl)
theorem dX0_warp_70 : decode cX0_warp 70 = .ok (.iload 7, 2) := dk_21 7 (dk_at dksX0_warp_3 0 rfl rfl)
theorem dX0_warp_72 : decode cX0_warp 72 = .ok (.imul, 1) := dk_104 (dk_at dksX0_warp_3 2 rfl rfl)
theorem dX0_warp_73 : decode cX0_warp 73 = .ok (.iload 4, 2) := dk_21 4 (dk_at dksX0_warp_3 3 rfl rfl)
theorem dX0_warp_75 : decode cX0_warp 75 = .ok (.iload 8, 2) := dk_21 8 (dk_at dksX0_warp_3 5 rfl rfl)
theorem dX0_warp_77 : decode cX0_warp 77 = .ok (.isub, 1) := dk_100 (dk_at dksX0_warp_3 7 rfl rfl)
theorem dX0_warp_78 : decode cX0_warp 78 = .ok (.imul, 1) := dk_104 (dk_at dksX0_warp_3 8 rfl rfl)
theorem dX0_warp_79 : decode cX0_warp 79 = .ok (.iadd, 1) := dk_96 (dk_at dksX0_warp_3 9 rfl rfl)
theorem dX0_warp_80 : decode cX0_warp 80 = .ok (.istore 5, 2) := dk_54 5 (dk_at dksX0_warp_3 10 rfl rfl)
theorem dX0_warp_82 : decode cX0_warp 82 = .ok (.iload 4, 2) := dk_21 4 (dk_at dksX0_warp_3 12 rfl rfl)
theorem dX0_warp_84 : decode cX0_warp 84 = .ok (.iload 7, 2) := dk_21 7 (dk_at dksX0_warp_3 14 rfl rfl)
theorem dX0_warp_86 : decode cX0_warp 86 = .ok (.iadd, 1) := dk_96 (dk_at dksX0_warp_3 16 rfl rfl)
theorem dX0_warp_87 : decode cX0_warp 87 = .ok (.istore 4, 2) := dk_54 4 (dk_at dksX0_warp_3 17 rfl rfl)
theorem dX0_warp_89 : decode cX0_warp 89 = .ok (.iinc 6 1, 3) := dk_132 6 1 (dk_at dksX0_warp_3 19 rfl rfl)
theorem dX0_warp_92 : decode cX0_warp 92 = .ok (.goto (-64), 3) := dk_167 255 192 (dk_at dksX0_warp_4 0 rfl rfl)
theorem dX0_warp_95 : decode cX0_warp 95 = .ok (.iload 5, 2) := dk_21 5 (dk_at dksX0_warp_4 3 rfl rfl)
theorem dX0_warp_97 : decode cX0_warp 97 = .ok (.ireturn, 1) := dk_172 (dk_at dksX0_warp_4 5 rfl rfl)
abbrev cX0_best : ByteArray := prog_1_method_34_code
def yX0_best : MethodName := ⟨RX0, "best", "(III)I"⟩
def dkwX0_best_6 : List UInt8 := [167, 255, 171, 21, 5, 172]
abbrev dktX0_best_6 : List UInt8 := dkwX0_best_6 ++ []
def dkwX0_best_5 : List UInt8 := [27, 21, 7, 182, 0, 228, 42, 27, 21, 5, 182, 0, 228, 162, 0, 7, 21, 7, 54, 5, 132, 6, 1]
abbrev dktX0_best_5 : List UInt8 := dkwX0_best_5 ++ dktX0_best_6
def dkwX0_best_4 : List UInt8 := [161, 0, 44, 42, 27, 21, 7, 4, 182, 0, 224, 29, 164, 0, 6, 167, 0, 29, 21, 5, 155, 0, 20, 42]
abbrev dktX0_best_4 : List UInt8 := dkwX0_best_4 ++ dktX0_best_5
def dkwX0_best_3 : List UInt8 := [42, 180, 0, 187, 21, 7, 3, 184, 0, 218, 51, 153, 0, 56, 42, 27, 21, 7, 2, 182, 0, 224, 28]
abbrev dktX0_best_3 : List UInt8 := dkwX0_best_3 ++ dktX0_best_4
def dkwX0_best_2 : List UInt8 := [167, 255, 236, 2, 54, 5, 3, 54, 6, 21, 6, 21, 4, 162, 0, 84, 27, 21, 6, 184, 0, 232, 54, 7]
abbrev dktX0_best_2 : List UInt8 := dkwX0_best_2 ++ dktX0_best_3
def dkwX0_best_1 : List UInt8 := [54, 5, 21, 5, 27, 5, 108, 4, 96, 162, 0, 16, 21, 4, 16, 6, 104, 54, 4, 132, 5, 1]
abbrev dktX0_best_1 : List UInt8 := dkwX0_best_1 ++ dktX0_best_2
def dkwX0_best_0 : List UInt8 := [27, 4, 161, 0, 15, 27, 16, 9, 163, 0, 9, 27, 5, 112, 154, 0, 5, 2, 172, 4, 54, 4, 3]
abbrev dktX0_best_0 : List UInt8 := dkwX0_best_0 ++ dktX0_best_1
theorem dksX0_best_0 : cX0_best.data.toList.drop 0 = dktX0_best_0 := by decide +kernel
theorem dksX0_best_1 : cX0_best.data.toList.drop 23 = dktX0_best_1 := dk_seg dksX0_best_0 23 rfl rfl
theorem dksX0_best_2 : cX0_best.data.toList.drop 45 = dktX0_best_2 := dk_seg dksX0_best_1 22 rfl rfl
theorem dksX0_best_3 : cX0_best.data.toList.drop 69 = dktX0_best_3 := dk_seg dksX0_best_2 24 rfl rfl
theorem dksX0_best_4 : cX0_best.data.toList.drop 92 = dktX0_best_4 := dk_seg dksX0_best_3 23 rfl rfl
theorem dksX0_best_5 : cX0_best.data.toList.drop 116 = dktX0_best_5 := dk_seg dksX0_best_4 24 rfl rfl
theorem dksX0_best_6 : cX0_best.data.toList.drop 139 = dktX0_best_6 := dk_seg dksX0_best_5 23 rfl rfl
theorem dX0_best_0 : decode cX0_best 0 = .ok (.iload_n 1, 1) := dk_27 (dk_at dksX0_best_0 0 rfl rfl)
theorem dX0_best_1 : decode cX0_best 1 = .ok (.iconst 1, 1) := dk_4 (dk_at dksX0_best_0 1 rfl rfl)
theorem dX0_best_2 : decode cX0_best 2 = .ok (.if_icmp .lt 15, 3) := dk_161 0 15 (dk_at dksX0_best_0 2 rfl rfl)
theorem dX0_best_5 : decode cX0_best 5 = .ok (.iload_n 1, 1) := dk_27 (dk_at dksX0_best_0 5 rfl rfl)
theorem dX0_best_6 : decode cX0_best 6 = .ok (.bipush 9, 2) := dk_16 9 (dk_at dksX0_best_0 6 rfl rfl)
theorem dX0_best_8 : decode cX0_best 8 = .ok (.if_icmp .gt 9, 3) := dk_163 0 9 (dk_at dksX0_best_0 8 rfl rfl)
theorem dX0_best_11 : decode cX0_best 11 = .ok (.iload_n 1, 1) := dk_27 (dk_at dksX0_best_0 11 rfl rfl)
theorem dX0_best_12 : decode cX0_best 12 = .ok (.iconst 2, 1) := dk_5 (dk_at dksX0_best_0 12 rfl rfl)
theorem dX0_best_13 : decode cX0_best 13 = .ok (.irem, 1) := dk_112 (dk_at dksX0_best_0 13 rfl rfl)
theorem dX0_best_14 : decode cX0_best 14 = .ok (.ifCond .ne 5, 3) := dk_154 0 5 (dk_at dksX0_best_0 14 rfl rfl)
theorem dX0_best_17 : decode cX0_best 17 = .ok (.iconst (-1), 1) := dk_2 (dk_at dksX0_best_0 17 rfl rfl)
theorem dX0_best_18 : decode cX0_best 18 = .ok (.ireturn, 1) := dk_172 (dk_at dksX0_best_0 18 rfl rfl)
theorem dX0_best_19 : decode cX0_best 19 = .ok (.iconst 1, 1) := dk_4 (dk_at dksX0_best_0 19 rfl rfl)
theorem dX0_best_20 : decode cX0_best 20 = .ok (.istore 4, 2) := dk_54 4 (dk_at dksX0_best_0 20 rfl rfl)
theorem dX0_best_22 : decode cX0_best 22 = .ok (.iconst 0, 1) := dk_3 (dk_at dksX0_best_0 22 rfl rfl)
theorem dX0_best_23 : decode cX0_best 23 = .ok (.istore 5, 2) := dk_54 5 (dk_at dksX0_best_1 0 rfl rfl)
theorem dX0_best_25 : decode cX0_best 25 = .ok (.iload 5, 2) := dk_21 5 (dk_at dksX0_best_1 2 rfl rfl)
theorem dX0_best_27 : decode cX0_best 27 = .ok (.iload_n 1, 1) := dk_27 (dk_at dksX0_best_1 4 rfl rfl)
theorem dX0_best_28 : decode cX0_best 28 = .ok (.iconst 2, 1) := dk_5 (dk_at dksX0_best_1 5 rfl rfl)
theorem dX0_best_29 : decode cX0_best 29 = .ok (.idiv, 1) := dk_108 (dk_at dksX0_best_1 6 rfl rfl)
theorem dX0_best_30 : decode cX0_best 30 = .ok (.iconst 1, 1) := dk_4 (dk_at dksX0_best_1 7 rfl rfl)
theorem dX0_best_31 : decode cX0_best 31 = .ok (.iadd, 1) := dk_96 (dk_at dksX0_best_1 8 rfl rfl)
theorem dX0_best_32 : decode cX0_best 32 = .ok (.if_icmp .ge 16, 3) := dk_162 0 16 (dk_at dksX0_best_1 9 rfl rfl)
theorem dX0_best_35 : decode cX0_best 35 = .ok (.iload 4, 2) := dk_21 4 (dk_at dksX0_best_1 12 rfl rfl)
theorem dX0_best_37 : decode cX0_best 37 = .ok (.bipush 6, 2) := dk_16 6 (dk_at dksX0_best_1 14 rfl rfl)
theorem dX0_best_39 : decode cX0_best 39 = .ok (.imul, 1) := dk_104 (dk_at dksX0_best_1 16 rfl rfl)
theorem dX0_best_40 : decode cX0_best 40 = .ok (.istore 4, 2) := dk_54 4 (dk_at dksX0_best_1 17 rfl rfl)
theorem dX0_best_42 : decode cX0_best 42 = .ok (.iinc 5 1, 3) := dk_132 5 1 (dk_at dksX0_best_1 19 rfl rfl)
theorem dX0_best_45 : decode cX0_best 45 = .ok (.goto (-20), 3) := dk_167 255 236 (dk_at dksX0_best_2 0 rfl rfl)
theorem dX0_best_48 : decode cX0_best 48 = .ok (.iconst (-1), 1) := dk_2 (dk_at dksX0_best_2 3 rfl rfl)
theorem dX0_best_49 : decode cX0_best 49 = .ok (.istore 5, 2) := dk_54 5 (dk_at dksX0_best_2 4 rfl rfl)
theorem dX0_best_51 : decode cX0_best 51 = .ok (.iconst 0, 1) := dk_3 (dk_at dksX0_best_2 6 rfl rfl)
theorem dX0_best_52 : decode cX0_best 52 = .ok (.istore 6, 2) := dk_54 6 (dk_at dksX0_best_2 7 rfl rfl)
theorem dX0_best_54 : decode cX0_best 54 = .ok (.iload 6, 2) := dk_21 6 (dk_at dksX0_best_2 9 rfl rfl)
theorem dX0_best_56 : decode cX0_best 56 = .ok (.iload 4, 2) := dk_21 4 (dk_at dksX0_best_2 11 rfl rfl)
theorem dX0_best_58 : decode cX0_best 58 = .ok (.if_icmp .ge 84, 3) := dk_162 0 84 (dk_at dksX0_best_2 13 rfl rfl)
theorem dX0_best_61 : decode cX0_best 61 = .ok (.iload_n 1, 1) := dk_27 (dk_at dksX0_best_2 16 rfl rfl)
theorem dX0_best_62 : decode cX0_best 62 = .ok (.iload 6, 2) := dk_21 6 (dk_at dksX0_best_2 17 rfl rfl)
theorem dX0_best_64 : decode cX0_best 64 = .ok (.invokestatic 232, 3) := dk_184 0 232 (dk_at dksX0_best_2 19 rfl rfl)
theorem dX0_best_67 : decode cX0_best 67 = .ok (.istore 7, 2) := dk_54 7 (dk_at dksX0_best_2 22 rfl rfl)
theorem dX0_best_69 : decode cX0_best 69 = .ok (.aload_n 0, 1) := dk_42 (dk_at dksX0_best_3 0 rfl rfl)
theorem dX0_best_70 : decode cX0_best 70 = .ok (.getfield 187, 3) := dk_180 0 187 (dk_at dksX0_best_3 1 rfl rfl)
theorem dX0_best_73 : decode cX0_best 73 = .ok (.iload 7, 2) := dk_21 7 (dk_at dksX0_best_3 4 rfl rfl)
theorem dX0_best_75 : decode cX0_best 75 = .ok (.iconst 0, 1) := dk_3 (dk_at dksX0_best_3 6 rfl rfl)
theorem dX0_best_76 : decode cX0_best 76 = .ok (.invokestatic 218, 3) := dk_184 0 218 (dk_at dksX0_best_3 7 rfl rfl)
theorem dX0_best_79 : decode cX0_best 79 = .ok (.baload, 1) := dk_51 (dk_at dksX0_best_3 10 rfl rfl)
theorem dX0_best_80 : decode cX0_best 80 = .ok (.ifCond .eq 56, 3) := dk_153 0 56 (dk_at dksX0_best_3 11 rfl rfl)
theorem dX0_best_83 : decode cX0_best 83 = .ok (.aload_n 0, 1) := dk_42 (dk_at dksX0_best_3 14 rfl rfl)
theorem dX0_best_84 : decode cX0_best 84 = .ok (.iload_n 1, 1) := dk_27 (dk_at dksX0_best_3 15 rfl rfl)
theorem dX0_best_85 : decode cX0_best 85 = .ok (.iload 7, 2) := dk_21 7 (dk_at dksX0_best_3 16 rfl rfl)
theorem dX0_best_87 : decode cX0_best 87 = .ok (.iconst (-1), 1) := dk_2 (dk_at dksX0_best_3 18 rfl rfl)
theorem dX0_best_88 : decode cX0_best 88 = .ok (.invokevirtual 224, 3) := dk_182 0 224 (dk_at dksX0_best_3 19 rfl rfl)
theorem dX0_best_91 : decode cX0_best 91 = .ok (.iload_n 2, 1) := dk_28 (dk_at dksX0_best_3 22 rfl rfl)
theorem dX0_best_92 : decode cX0_best 92 = .ok (.if_icmp .lt 44, 3) := dk_161 0 44 (dk_at dksX0_best_4 0 rfl rfl)
theorem dX0_best_95 : decode cX0_best 95 = .ok (.aload_n 0, 1) := dk_42 (dk_at dksX0_best_4 3 rfl rfl)
theorem dX0_best_96 : decode cX0_best 96 = .ok (.iload_n 1, 1) := dk_27 (dk_at dksX0_best_4 4 rfl rfl)
theorem dX0_best_97 : decode cX0_best 97 = .ok (.iload 7, 2) := dk_21 7 (dk_at dksX0_best_4 5 rfl rfl)
theorem dX0_best_99 : decode cX0_best 99 = .ok (.iconst 1, 1) := dk_4 (dk_at dksX0_best_4 7 rfl rfl)
theorem dX0_best_100 : decode cX0_best 100 = .ok (.invokevirtual 224, 3) := dk_182 0 224 (dk_at dksX0_best_4 8 rfl rfl)
theorem dX0_best_103 : decode cX0_best 103 = .ok (.iload_n 3, 1) := dk_29 (dk_at dksX0_best_4 11 rfl rfl)
theorem dX0_best_104 : decode cX0_best 104 = .ok (.if_icmp .le 6, 3) := dk_164 0 6 (dk_at dksX0_best_4 12 rfl rfl)
theorem dX0_best_107 : decode cX0_best 107 = .ok (.goto 29, 3) := dk_167 0 29 (dk_at dksX0_best_4 15 rfl rfl)
theorem dX0_best_110 : decode cX0_best 110 = .ok (.iload 5, 2) := dk_21 5 (dk_at dksX0_best_4 18 rfl rfl)
theorem dX0_best_112 : decode cX0_best 112 = .ok (.ifCond .lt 20, 3) := dk_155 0 20 (dk_at dksX0_best_4 20 rfl rfl)
theorem dX0_best_115 : decode cX0_best 115 = .ok (.aload_n 0, 1) := dk_42 (dk_at dksX0_best_4 23 rfl rfl)
theorem dX0_best_116 : decode cX0_best 116 = .ok (.iload_n 1, 1) := dk_27 (dk_at dksX0_best_5 0 rfl rfl)
theorem dX0_best_117 : decode cX0_best 117 = .ok (.iload 7, 2) := dk_21 7 (dk_at dksX0_best_5 1 rfl rfl)
theorem dX0_best_119 : decode cX0_best 119 = .ok (.invokevirtual 228, 3) := dk_182 0 228 (dk_at dksX0_best_5 3 rfl rfl)
theorem dX0_best_122 : decode cX0_best 122 = .ok (.aload_n 0, 1) := dk_42 (dk_at dksX0_best_5 6 rfl rfl)
theorem dX0_best_123 : decode cX0_best 123 = .ok (.iload_n 1, 1) := dk_27 (dk_at dksX0_best_5 7 rfl rfl)
theorem dX0_best_124 : decode cX0_best 124 = .ok (.iload 5, 2) := dk_21 5 (dk_at dksX0_best_5 8 rfl rfl)
theorem dX0_best_126 : decode cX0_best 126 = .ok (.invokevirtual 228, 3) := dk_182 0 228 (dk_at dksX0_best_5 10 rfl rfl)
theorem dX0_best_129 : decode cX0_best 129 = .ok (.if_icmp .ge 7, 3) := dk_162 0 7 (dk_at dksX0_best_5 13 rfl rfl)
theorem dX0_best_132 : decode cX0_best 132 = .ok (.iload 7, 2) := dk_21 7 (dk_at dksX0_best_5 16 rfl rfl)
theorem dX0_best_134 : decode cX0_best 134 = .ok (.istore 5, 2) := dk_54 5 (dk_at dksX0_best_5 18 rfl rfl)
theorem dX0_best_136 : decode cX0_best 136 = .ok (.iinc 6 1, 3) := dk_132 6 1 (dk_at dksX0_best_5 20 rfl rfl)
theorem dX0_best_139 : decode cX0_best 139 = .ok (.goto (-85), 3) := dk_167 255 171 (dk_at dksX0_best_6 0 rfl rfl)
theorem dX0_best_142 : decode cX0_best 142 = .ok (.iload 5, 2) := dk_21 5 (dk_at dksX0_best_6 3 rfl rfl)
theorem dX0_best_144 : decode cX0_best 144 = .ok (.ireturn, 1) := dk_172 (dk_at dksX0_best_6 5 rfl rfl)
abbrev cX0_balanced : ByteArray := prog_1_method_33_code
def yX0_balanced : MethodName := ⟨RX0, "balanced", "(II)I"⟩
def dkwX0_balanced_2 : List UInt8 := [21, 6, 6, 26, 4, 100, 21, 5, 100, 104, 120, 128, 62, 132, 5, 255, 167, 255, 210, 29, 172]
abbrev dktX0_balanced_2 : List UInt8 := dkwX0_balanced_2 ++ []
def dkwX0_balanced_1 : List UInt8 := [16, 6, 112, 54, 6, 21, 4, 16, 6, 108, 54, 4, 29, 21, 6, 6, 21, 5, 104, 120, 128, 62, 29]
abbrev dktX0_balanced_1 : List UInt8 := dkwX0_balanced_1 ++ dktX0_balanced_2
def dkwX0_balanced_0 : List UInt8 := [26, 5, 108, 4, 96, 61, 3, 62, 27, 54, 4, 28, 4, 100, 54, 5, 21, 5, 155, 0, 47, 21, 4]
abbrev dktX0_balanced_0 : List UInt8 := dkwX0_balanced_0 ++ dktX0_balanced_1
theorem dksX0_balanced_0 : cX0_balanced.data.toList.drop 0 = dktX0_balanced_0 := by decide +kernel
theorem dksX0_balanced_1 : cX0_balanced.data.toList.drop 23 = dktX0_balanced_1 := dk_seg dksX0_balanced_0 23 rfl rfl
theorem dksX0_balanced_2 : cX0_balanced.data.toList.drop 46 = dktX0_balanced_2 := dk_seg dksX0_balanced_1 23 rfl rfl
theorem dX0_balanced_0 : decode cX0_balanced 0 = .ok (.iload_n 0, 1) := dk_26 (dk_at dksX0_balanced_0 0 rfl rfl)
theorem dX0_balanced_1 : decode cX0_balanced 1 = .ok (.iconst 2, 1) := dk_5 (dk_at dksX0_balanced_0 1 rfl rfl)
theorem dX0_balanced_2 : decode cX0_balanced 2 = .ok (.idiv, 1) := dk_108 (dk_at dksX0_balanced_0 2 rfl rfl)
theorem dX0_balanced_3 : decode cX0_balanced 3 = .ok (.iconst 1, 1) := dk_4 (dk_at dksX0_balanced_0 3 rfl rfl)
theorem dX0_balanced_4 : decode cX0_balanced 4 = .ok (.iadd, 1) := dk_96 (dk_at dksX0_balanced_0 4 rfl rfl)
theorem dX0_balanced_5 : decode cX0_balanced 5 = .ok (.istore_n 2, 1) := dk_61 (dk_at dksX0_balanced_0 5 rfl rfl)
theorem dX0_balanced_6 : decode cX0_balanced 6 = .ok (.iconst 0, 1) := dk_3 (dk_at dksX0_balanced_0 6 rfl rfl)
theorem dX0_balanced_7 : decode cX0_balanced 7 = .ok (.istore_n 3, 1) := dk_62 (dk_at dksX0_balanced_0 7 rfl rfl)
theorem dX0_balanced_8 : decode cX0_balanced 8 = .ok (.iload_n 1, 1) := dk_27 (dk_at dksX0_balanced_0 8 rfl rfl)
theorem dX0_balanced_9 : decode cX0_balanced 9 = .ok (.istore 4, 2) := dk_54 4 (dk_at dksX0_balanced_0 9 rfl rfl)
theorem dX0_balanced_11 : decode cX0_balanced 11 = .ok (.iload_n 2, 1) := dk_28 (dk_at dksX0_balanced_0 11 rfl rfl)
theorem dX0_balanced_12 : decode cX0_balanced 12 = .ok (.iconst 1, 1) := dk_4 (dk_at dksX0_balanced_0 12 rfl rfl)
theorem dX0_balanced_13 : decode cX0_balanced 13 = .ok (.isub, 1) := dk_100 (dk_at dksX0_balanced_0 13 rfl rfl)
theorem dX0_balanced_14 : decode cX0_balanced 14 = .ok (.istore 5, 2) := dk_54 5 (dk_at dksX0_balanced_0 14 rfl rfl)
theorem dX0_balanced_16 : decode cX0_balanced 16 = .ok (.iload 5, 2) := dk_21 5 (dk_at dksX0_balanced_0 16 rfl rfl)
theorem dX0_balanced_18 : decode cX0_balanced 18 = .ok (.ifCond .lt 47, 3) := dk_155 0 47 (dk_at dksX0_balanced_0 18 rfl rfl)
theorem dX0_balanced_21 : decode cX0_balanced 21 = .ok (.iload 4, 2) := dk_21 4 (dk_at dksX0_balanced_0 21 rfl rfl)
theorem dX0_balanced_23 : decode cX0_balanced 23 = .ok (.bipush 6, 2) := dk_16 6 (dk_at dksX0_balanced_1 0 rfl rfl)
theorem dX0_balanced_25 : decode cX0_balanced 25 = .ok (.irem, 1) := dk_112 (dk_at dksX0_balanced_1 2 rfl rfl)
theorem dX0_balanced_26 : decode cX0_balanced 26 = .ok (.istore 6, 2) := dk_54 6 (dk_at dksX0_balanced_1 3 rfl rfl)
theorem dX0_balanced_28 : decode cX0_balanced 28 = .ok (.iload 4, 2) := dk_21 4 (dk_at dksX0_balanced_1 5 rfl rfl)
theorem dX0_balanced_30 : decode cX0_balanced 30 = .ok (.bipush 6, 2) := dk_16 6 (dk_at dksX0_balanced_1 7 rfl rfl)
theorem dX0_balanced_32 : decode cX0_balanced 32 = .ok (.idiv, 1) := dk_108 (dk_at dksX0_balanced_1 9 rfl rfl)
theorem dX0_balanced_33 : decode cX0_balanced 33 = .ok (.istore 4, 2) := dk_54 4 (dk_at dksX0_balanced_1 10 rfl rfl)
theorem dX0_balanced_35 : decode cX0_balanced 35 = .ok (.iload_n 3, 1) := dk_29 (dk_at dksX0_balanced_1 12 rfl rfl)
theorem dX0_balanced_36 : decode cX0_balanced 36 = .ok (.iload 6, 2) := dk_21 6 (dk_at dksX0_balanced_1 13 rfl rfl)
theorem dX0_balanced_38 : decode cX0_balanced 38 = .ok (.iconst 3, 1) := dk_6 (dk_at dksX0_balanced_1 15 rfl rfl)
theorem dX0_balanced_39 : decode cX0_balanced 39 = .ok (.iload 5, 2) := dk_21 5 (dk_at dksX0_balanced_1 16 rfl rfl)
theorem dX0_balanced_41 : decode cX0_balanced 41 = .ok (.imul, 1) := dk_104 (dk_at dksX0_balanced_1 18 rfl rfl)
theorem dX0_balanced_42 : decode cX0_balanced 42 = .ok (.ishl, 1) := dk_120 (dk_at dksX0_balanced_1 19 rfl rfl)
theorem dX0_balanced_43 : decode cX0_balanced 43 = .ok (.ior, 1) := dk_128 (dk_at dksX0_balanced_1 20 rfl rfl)
theorem dX0_balanced_44 : decode cX0_balanced 44 = .ok (.istore_n 3, 1) := dk_62 (dk_at dksX0_balanced_1 21 rfl rfl)
theorem dX0_balanced_45 : decode cX0_balanced 45 = .ok (.iload_n 3, 1) := dk_29 (dk_at dksX0_balanced_1 22 rfl rfl)
theorem dX0_balanced_46 : decode cX0_balanced 46 = .ok (.iload 6, 2) := dk_21 6 (dk_at dksX0_balanced_2 0 rfl rfl)
theorem dX0_balanced_48 : decode cX0_balanced 48 = .ok (.iconst 3, 1) := dk_6 (dk_at dksX0_balanced_2 2 rfl rfl)
theorem dX0_balanced_49 : decode cX0_balanced 49 = .ok (.iload_n 0, 1) := dk_26 (dk_at dksX0_balanced_2 3 rfl rfl)
theorem dX0_balanced_50 : decode cX0_balanced 50 = .ok (.iconst 1, 1) := dk_4 (dk_at dksX0_balanced_2 4 rfl rfl)
theorem dX0_balanced_51 : decode cX0_balanced 51 = .ok (.isub, 1) := dk_100 (dk_at dksX0_balanced_2 5 rfl rfl)
theorem dX0_balanced_52 : decode cX0_balanced 52 = .ok (.iload 5, 2) := dk_21 5 (dk_at dksX0_balanced_2 6 rfl rfl)
theorem dX0_balanced_54 : decode cX0_balanced 54 = .ok (.isub, 1) := dk_100 (dk_at dksX0_balanced_2 8 rfl rfl)
theorem dX0_balanced_55 : decode cX0_balanced 55 = .ok (.imul, 1) := dk_104 (dk_at dksX0_balanced_2 9 rfl rfl)
theorem dX0_balanced_56 : decode cX0_balanced 56 = .ok (.ishl, 1) := dk_120 (dk_at dksX0_balanced_2 10 rfl rfl)
theorem dX0_balanced_57 : decode cX0_balanced 57 = .ok (.ior, 1) := dk_128 (dk_at dksX0_balanced_2 11 rfl rfl)
theorem dX0_balanced_58 : decode cX0_balanced 58 = .ok (.istore_n 3, 1) := dk_62 (dk_at dksX0_balanced_2 12 rfl rfl)
theorem dX0_balanced_59 : decode cX0_balanced 59 = .ok (.iinc 5 (-1), 3) := dk_132 5 255 (dk_at dksX0_balanced_2 13 rfl rfl)
theorem dX0_balanced_62 : decode cX0_balanced 62 = .ok (.goto (-46), 3) := dk_167 255 210 (dk_at dksX0_balanced_2 16 rfl rfl)
theorem dX0_balanced_65 : decode cX0_balanced 65 = .ok (.iload_n 3, 1) := dk_29 (dk_at dksX0_balanced_2 19 rfl rfl)
theorem dX0_balanced_66 : decode cX0_balanced 66 = .ok (.ireturn, 1) := dk_172 (dk_at dksX0_balanced_2 20 rfl rfl)
abbrev cX0_press : ByteArray := prog_1_method_35_code
def yX0_press : MethodName := ⟨RX0, "press", "(IIII)Z"⟩
def dkwX0_press_2 : List UInt8 := [172, 42, 27, 181, 0, 197, 42, 28, 181, 0, 200, 42, 29, 181, 0, 203, 42, 21, 4, 181, 0, 206, 4, 172]
abbrev dktX0_press_2 : List UInt8 := dkwX0_press_2 ++ []
def dkwX0_press_1 : List UInt8 := [155, 0, 23, 29, 16, 10, 163, 0, 17, 21, 4, 4, 161, 0, 11, 21, 4, 17, 3, 232, 164, 0, 5, 3]
abbrev dktX0_press_1 : List UInt8 := dkwX0_press_1 ++ dktX0_press_2
def dkwX0_press_0 : List UInt8 := [27, 4, 161, 0, 43, 27, 16, 10, 163, 0, 37, 28, 155, 0, 33, 28, 16, 100, 163, 0, 27, 29]
abbrev dktX0_press_0 : List UInt8 := dkwX0_press_0 ++ dktX0_press_1
theorem dksX0_press_0 : cX0_press.data.toList.drop 0 = dktX0_press_0 := by decide +kernel
theorem dksX0_press_1 : cX0_press.data.toList.drop 22 = dktX0_press_1 := dk_seg dksX0_press_0 22 rfl rfl
theorem dksX0_press_2 : cX0_press.data.toList.drop 46 = dktX0_press_2 := dk_seg dksX0_press_1 24 rfl rfl
theorem dX0_press_0 : decode cX0_press 0 = .ok (.iload_n 1, 1) := dk_27 (dk_at dksX0_press_0 0 rfl rfl)
theorem dX0_press_1 : decode cX0_press 1 = .ok (.iconst 1, 1) := dk_4 (dk_at dksX0_press_0 1 rfl rfl)
theorem dX0_press_2 : decode cX0_press 2 = .ok (.if_icmp .lt 43, 3) := dk_161 0 43 (dk_at dksX0_press_0 2 rfl rfl)
theorem dX0_press_5 : decode cX0_press 5 = .ok (.iload_n 1, 1) := dk_27 (dk_at dksX0_press_0 5 rfl rfl)
theorem dX0_press_6 : decode cX0_press 6 = .ok (.bipush 10, 2) := dk_16 10 (dk_at dksX0_press_0 6 rfl rfl)
theorem dX0_press_8 : decode cX0_press 8 = .ok (.if_icmp .gt 37, 3) := dk_163 0 37 (dk_at dksX0_press_0 8 rfl rfl)
theorem dX0_press_11 : decode cX0_press 11 = .ok (.iload_n 2, 1) := dk_28 (dk_at dksX0_press_0 11 rfl rfl)
theorem dX0_press_12 : decode cX0_press 12 = .ok (.ifCond .lt 33, 3) := dk_155 0 33 (dk_at dksX0_press_0 12 rfl rfl)
theorem dX0_press_15 : decode cX0_press 15 = .ok (.iload_n 2, 1) := dk_28 (dk_at dksX0_press_0 15 rfl rfl)
theorem dX0_press_16 : decode cX0_press 16 = .ok (.bipush 100, 2) := dk_16 100 (dk_at dksX0_press_0 16 rfl rfl)
theorem dX0_press_18 : decode cX0_press 18 = .ok (.if_icmp .gt 27, 3) := dk_163 0 27 (dk_at dksX0_press_0 18 rfl rfl)
theorem dX0_press_21 : decode cX0_press 21 = .ok (.iload_n 3, 1) := dk_29 (dk_at dksX0_press_0 21 rfl rfl)
theorem dX0_press_22 : decode cX0_press 22 = .ok (.ifCond .lt 23, 3) := dk_155 0 23 (dk_at dksX0_press_1 0 rfl rfl)
theorem dX0_press_25 : decode cX0_press 25 = .ok (.iload_n 3, 1) := dk_29 (dk_at dksX0_press_1 3 rfl rfl)
theorem dX0_press_26 : decode cX0_press 26 = .ok (.bipush 10, 2) := dk_16 10 (dk_at dksX0_press_1 4 rfl rfl)
theorem dX0_press_28 : decode cX0_press 28 = .ok (.if_icmp .gt 17, 3) := dk_163 0 17 (dk_at dksX0_press_1 6 rfl rfl)
theorem dX0_press_31 : decode cX0_press 31 = .ok (.iload 4, 2) := dk_21 4 (dk_at dksX0_press_1 9 rfl rfl)
theorem dX0_press_33 : decode cX0_press 33 = .ok (.iconst 1, 1) := dk_4 (dk_at dksX0_press_1 11 rfl rfl)
theorem dX0_press_34 : decode cX0_press 34 = .ok (.if_icmp .lt 11, 3) := dk_161 0 11 (dk_at dksX0_press_1 12 rfl rfl)
theorem dX0_press_37 : decode cX0_press 37 = .ok (.iload 4, 2) := dk_21 4 (dk_at dksX0_press_1 15 rfl rfl)
theorem dX0_press_39 : decode cX0_press 39 = .ok (.sipush 1000, 3) := dk_17 3 232 (dk_at dksX0_press_1 17 rfl rfl)
theorem dX0_press_42 : decode cX0_press 42 = .ok (.if_icmp .le 5, 3) := dk_164 0 5 (dk_at dksX0_press_1 20 rfl rfl)
theorem dX0_press_45 : decode cX0_press 45 = .ok (.iconst 0, 1) := dk_3 (dk_at dksX0_press_1 23 rfl rfl)
theorem dX0_press_46 : decode cX0_press 46 = .ok (.ireturn, 1) := dk_172 (dk_at dksX0_press_2 0 rfl rfl)
theorem dX0_press_47 : decode cX0_press 47 = .ok (.aload_n 0, 1) := dk_42 (dk_at dksX0_press_2 1 rfl rfl)
theorem dX0_press_48 : decode cX0_press 48 = .ok (.iload_n 1, 1) := dk_27 (dk_at dksX0_press_2 2 rfl rfl)
theorem dX0_press_49 : decode cX0_press 49 = .ok (.putfield 197, 3) := dk_181 0 197 (dk_at dksX0_press_2 3 rfl rfl)
theorem dX0_press_52 : decode cX0_press 52 = .ok (.aload_n 0, 1) := dk_42 (dk_at dksX0_press_2 6 rfl rfl)
theorem dX0_press_53 : decode cX0_press 53 = .ok (.iload_n 2, 1) := dk_28 (dk_at dksX0_press_2 7 rfl rfl)
theorem dX0_press_54 : decode cX0_press 54 = .ok (.putfield 200, 3) := dk_181 0 200 (dk_at dksX0_press_2 8 rfl rfl)
theorem dX0_press_57 : decode cX0_press 57 = .ok (.aload_n 0, 1) := dk_42 (dk_at dksX0_press_2 11 rfl rfl)
theorem dX0_press_58 : decode cX0_press 58 = .ok (.iload_n 3, 1) := dk_29 (dk_at dksX0_press_2 12 rfl rfl)
theorem dX0_press_59 : decode cX0_press 59 = .ok (.putfield 203, 3) := dk_181 0 203 (dk_at dksX0_press_2 13 rfl rfl)
theorem dX0_press_62 : decode cX0_press 62 = .ok (.aload_n 0, 1) := dk_42 (dk_at dksX0_press_2 16 rfl rfl)
theorem dX0_press_63 : decode cX0_press 63 = .ok (.iload 4, 2) := dk_21 4 (dk_at dksX0_press_2 17 rfl rfl)
theorem dX0_press_65 : decode cX0_press 65 = .ok (.putfield 206, 3) := dk_181 0 206 (dk_at dksX0_press_2 19 rfl rfl)
theorem dX0_press_68 : decode cX0_press 68 = .ok (.iconst 1, 1) := dk_4 (dk_at dksX0_press_2 22 rfl rfl)
theorem dX0_press_69 : decode cX0_press 69 = .ok (.ireturn, 1) := dk_172 (dk_at dksX0_press_2 23 rfl rfl)
abbrev cX0_glue : ByteArray := prog_1_method_36_code
def yX0_glue : MethodName := ⟨RX0, "glue", "(II)I"⟩
def dkwX0_glue_2 : List UInt8 := [42, 180, 0, 235, 28, 79, 42, 89, 180, 0, 235, 4, 96, 181, 0, 235, 42, 180, 0, 235, 4, 100, 172]
abbrev dktX0_glue_2 : List UInt8 := dkwX0_glue_2 ++ []
def dkwX0_glue_1 : List UInt8 := [180, 0, 235, 16, 10, 160, 0, 5, 2, 172, 42, 180, 0, 191, 42, 180, 0, 235, 27, 79, 42, 180, 0, 194]
abbrev dktX0_glue_1 : List UInt8 := dkwX0_glue_1 ++ dktX0_glue_2
def dkwX0_glue_0 : List UInt8 := [27, 4, 161, 0, 30, 27, 17, 1, 244, 163, 0, 23, 28, 155, 0, 19, 28, 17, 39, 16, 163, 0, 12, 42]
abbrev dktX0_glue_0 : List UInt8 := dkwX0_glue_0 ++ dktX0_glue_1
theorem dksX0_glue_0 : cX0_glue.data.toList.drop 0 = dktX0_glue_0 := by decide +kernel
theorem dksX0_glue_1 : cX0_glue.data.toList.drop 24 = dktX0_glue_1 := dk_seg dksX0_glue_0 24 rfl rfl
theorem dksX0_glue_2 : cX0_glue.data.toList.drop 48 = dktX0_glue_2 := dk_seg dksX0_glue_1 24 rfl rfl
theorem dX0_glue_0 : decode cX0_glue 0 = .ok (.iload_n 1, 1) := dk_27 (dk_at dksX0_glue_0 0 rfl rfl)
theorem dX0_glue_1 : decode cX0_glue 1 = .ok (.iconst 1, 1) := dk_4 (dk_at dksX0_glue_0 1 rfl rfl)
theorem dX0_glue_2 : decode cX0_glue 2 = .ok (.if_icmp .lt 30, 3) := dk_161 0 30 (dk_at dksX0_glue_0 2 rfl rfl)
theorem dX0_glue_5 : decode cX0_glue 5 = .ok (.iload_n 1, 1) := dk_27 (dk_at dksX0_glue_0 5 rfl rfl)
theorem dX0_glue_6 : decode cX0_glue 6 = .ok (.sipush 500, 3) := dk_17 1 244 (dk_at dksX0_glue_0 6 rfl rfl)
theorem dX0_glue_9 : decode cX0_glue 9 = .ok (.if_icmp .gt 23, 3) := dk_163 0 23 (dk_at dksX0_glue_0 9 rfl rfl)
theorem dX0_glue_12 : decode cX0_glue 12 = .ok (.iload_n 2, 1) := dk_28 (dk_at dksX0_glue_0 12 rfl rfl)
theorem dX0_glue_13 : decode cX0_glue 13 = .ok (.ifCond .lt 19, 3) := dk_155 0 19 (dk_at dksX0_glue_0 13 rfl rfl)
theorem dX0_glue_16 : decode cX0_glue 16 = .ok (.iload_n 2, 1) := dk_28 (dk_at dksX0_glue_0 16 rfl rfl)
theorem dX0_glue_17 : decode cX0_glue 17 = .ok (.sipush 10000, 3) := dk_17 39 16 (dk_at dksX0_glue_0 17 rfl rfl)
theorem dX0_glue_20 : decode cX0_glue 20 = .ok (.if_icmp .gt 12, 3) := dk_163 0 12 (dk_at dksX0_glue_0 20 rfl rfl)
theorem dX0_glue_23 : decode cX0_glue 23 = .ok (.aload_n 0, 1) := dk_42 (dk_at dksX0_glue_0 23 rfl rfl)
theorem dX0_glue_24 : decode cX0_glue 24 = .ok (.getfield 235, 3) := dk_180 0 235 (dk_at dksX0_glue_1 0 rfl rfl)
theorem dX0_glue_27 : decode cX0_glue 27 = .ok (.bipush 10, 2) := dk_16 10 (dk_at dksX0_glue_1 3 rfl rfl)
theorem dX0_glue_29 : decode cX0_glue 29 = .ok (.if_icmp .ne 5, 3) := dk_160 0 5 (dk_at dksX0_glue_1 5 rfl rfl)
theorem dX0_glue_32 : decode cX0_glue 32 = .ok (.iconst (-1), 1) := dk_2 (dk_at dksX0_glue_1 8 rfl rfl)
theorem dX0_glue_33 : decode cX0_glue 33 = .ok (.ireturn, 1) := dk_172 (dk_at dksX0_glue_1 9 rfl rfl)
theorem dX0_glue_34 : decode cX0_glue 34 = .ok (.aload_n 0, 1) := dk_42 (dk_at dksX0_glue_1 10 rfl rfl)
theorem dX0_glue_35 : decode cX0_glue 35 = .ok (.getfield 191, 3) := dk_180 0 191 (dk_at dksX0_glue_1 11 rfl rfl)
theorem dX0_glue_38 : decode cX0_glue 38 = .ok (.aload_n 0, 1) := dk_42 (dk_at dksX0_glue_1 14 rfl rfl)
theorem dX0_glue_39 : decode cX0_glue 39 = .ok (.getfield 235, 3) := dk_180 0 235 (dk_at dksX0_glue_1 15 rfl rfl)
theorem dX0_glue_42 : decode cX0_glue 42 = .ok (.iload_n 1, 1) := dk_27 (dk_at dksX0_glue_1 18 rfl rfl)
theorem dX0_glue_43 : decode cX0_glue 43 = .ok (.iastore, 1) := dk_79 (dk_at dksX0_glue_1 19 rfl rfl)
theorem dX0_glue_44 : decode cX0_glue 44 = .ok (.aload_n 0, 1) := dk_42 (dk_at dksX0_glue_1 20 rfl rfl)
theorem dX0_glue_45 : decode cX0_glue 45 = .ok (.getfield 194, 3) := dk_180 0 194 (dk_at dksX0_glue_1 21 rfl rfl)
theorem dX0_glue_48 : decode cX0_glue 48 = .ok (.aload_n 0, 1) := dk_42 (dk_at dksX0_glue_2 0 rfl rfl)
theorem dX0_glue_49 : decode cX0_glue 49 = .ok (.getfield 235, 3) := dk_180 0 235 (dk_at dksX0_glue_2 1 rfl rfl)
theorem dX0_glue_52 : decode cX0_glue 52 = .ok (.iload_n 2, 1) := dk_28 (dk_at dksX0_glue_2 4 rfl rfl)
theorem dX0_glue_53 : decode cX0_glue 53 = .ok (.iastore, 1) := dk_79 (dk_at dksX0_glue_2 5 rfl rfl)
theorem dX0_glue_54 : decode cX0_glue 54 = .ok (.aload_n 0, 1) := dk_42 (dk_at dksX0_glue_2 6 rfl rfl)
theorem dX0_glue_55 : decode cX0_glue 55 = .ok (.dup, 1) := dk_89 (dk_at dksX0_glue_2 7 rfl rfl)
theorem dX0_glue_56 : decode cX0_glue 56 = .ok (.getfield 235, 3) := dk_180 0 235 (dk_at dksX0_glue_2 8 rfl rfl)
theorem dX0_glue_59 : decode cX0_glue 59 = .ok (.iconst 1, 1) := dk_4 (dk_at dksX0_glue_2 11 rfl rfl)
theorem dX0_glue_60 : decode cX0_glue 60 = .ok (.iadd, 1) := dk_96 (dk_at dksX0_glue_2 12 rfl rfl)
theorem dX0_glue_61 : decode cX0_glue 61 = .ok (.putfield 235, 3) := dk_181 0 235 (dk_at dksX0_glue_2 13 rfl rfl)
theorem dX0_glue_64 : decode cX0_glue 64 = .ok (.aload_n 0, 1) := dk_42 (dk_at dksX0_glue_2 16 rfl rfl)
theorem dX0_glue_65 : decode cX0_glue 65 = .ok (.getfield 235, 3) := dk_180 0 235 (dk_at dksX0_glue_2 17 rfl rfl)
theorem dX0_glue_68 : decode cX0_glue 68 = .ok (.iconst 1, 1) := dk_4 (dk_at dksX0_glue_2 20 rfl rfl)
theorem dX0_glue_69 : decode cX0_glue 69 = .ok (.isub, 1) := dk_100 (dk_at dksX0_glue_2 21 rfl rfl)
theorem dX0_glue_70 : decode cX0_glue 70 = .ok (.ireturn, 1) := dk_172 (dk_at dksX0_glue_2 22 rfl rfl)
abbrev cX0_drop : ByteArray := prog_1_method_37_code
def yX0_drop : MethodName := ⟨RX0, "drop", "()Z"⟩
def dkwX0_drop_0 : List UInt8 := [42, 180, 0, 235, 154, 0, 5, 3, 172, 42, 89, 180, 0, 235, 4, 100, 181, 0, 235, 4, 172]
abbrev dktX0_drop_0 : List UInt8 := dkwX0_drop_0 ++ []
theorem dksX0_drop_0 : cX0_drop.data.toList.drop 0 = dktX0_drop_0 := by decide +kernel
theorem dX0_drop_0 : decode cX0_drop 0 = .ok (.aload_n 0, 1) := dk_42 (dk_at dksX0_drop_0 0 rfl rfl)
theorem dX0_drop_1 : decode cX0_drop 1 = .ok (.getfield 235, 3) := dk_180 0 235 (dk_at dksX0_drop_0 1 rfl rfl)
theorem dX0_drop_4 : decode cX0_drop 4 = .ok (.ifCond .ne 5, 3) := dk_154 0 5 (dk_at dksX0_drop_0 4 rfl rfl)
theorem dX0_drop_7 : decode cX0_drop 7 = .ok (.iconst 0, 1) := dk_3 (dk_at dksX0_drop_0 7 rfl rfl)
theorem dX0_drop_8 : decode cX0_drop 8 = .ok (.ireturn, 1) := dk_172 (dk_at dksX0_drop_0 8 rfl rfl)
theorem dX0_drop_9 : decode cX0_drop 9 = .ok (.aload_n 0, 1) := dk_42 (dk_at dksX0_drop_0 9 rfl rfl)
theorem dX0_drop_10 : decode cX0_drop 10 = .ok (.dup, 1) := dk_89 (dk_at dksX0_drop_0 10 rfl rfl)
theorem dX0_drop_11 : decode cX0_drop 11 = .ok (.getfield 235, 3) := dk_180 0 235 (dk_at dksX0_drop_0 11 rfl rfl)
theorem dX0_drop_14 : decode cX0_drop 14 = .ok (.iconst 1, 1) := dk_4 (dk_at dksX0_drop_0 14 rfl rfl)
theorem dX0_drop_15 : decode cX0_drop 15 = .ok (.isub, 1) := dk_100 (dk_at dksX0_drop_0 15 rfl rfl)
theorem dX0_drop_16 : decode cX0_drop 16 = .ok (.putfield 235, 3) := dk_181 0 235 (dk_at dksX0_drop_0 16 rfl rfl)
theorem dX0_drop_19 : decode cX0_drop 19 = .ok (.iconst 1, 1) := dk_4 (dk_at dksX0_drop_0 19 rfl rfl)
theorem dX0_drop_20 : decode cX0_drop 20 = .ok (.ireturn, 1) := dk_172 (dk_at dksX0_drop_0 20 rfl rfl)
abbrev cX0_plan : ByteArray := prog_1_method_43_code
def yX0_plan : MethodName := ⟨RX0, "plan", "(I)I"⟩
def dkwX0_plan_3 : List UInt8 := [180, 1, 10, 172, 2, 172]
abbrev dktX0_plan_3 : List UInt8 := dkwX0_plan_3 ++ []
def dkwX0_plan_2 : List UInt8 := [42, 180, 1, 7, 184, 1, 4, 172, 42, 180, 1, 7, 172, 42, 180, 0, 209, 42, 180, 1, 7, 46, 172, 42]
abbrev dktX0_plan_2 : List UInt8 := dkwX0_plan_2 ++ dktX0_plan_3
def dkwX0_plan_1 : List UInt8 := [170, 0, 0, 0, 0, 0, 59, 0, 0, 0, 0, 0, 0, 0, 3, 0, 0, 0, 31, 0, 0, 0, 39, 0, 0, 0, 44, 0, 0, 0, 54]
abbrev dktX0_plan_1 : List UInt8 := dkwX0_plan_1 ++ dktX0_plan_2
def dkwX0_plan_0 : List UInt8 := [42, 182, 1, 13, 27]
abbrev dktX0_plan_0 : List UInt8 := dkwX0_plan_0 ++ dktX0_plan_1
theorem dksX0_plan_0 : cX0_plan.data.toList.drop 0 = dktX0_plan_0 := by decide +kernel
theorem dksX0_plan_1 : cX0_plan.data.toList.drop 5 = dktX0_plan_1 := dk_seg dksX0_plan_0 5 rfl rfl
theorem dksX0_plan_2 : cX0_plan.data.toList.drop 36 = dktX0_plan_2 := dk_seg dksX0_plan_1 31 rfl rfl
theorem dksX0_plan_3 : cX0_plan.data.toList.drop 60 = dktX0_plan_3 := dk_seg dksX0_plan_2 24 rfl rfl
theorem dX0_plan_0 : decode cX0_plan 0 = .ok (.aload_n 0, 1) := dk_42 (dk_at dksX0_plan_0 0 rfl rfl)
theorem dX0_plan_1 : decode cX0_plan 1 = .ok (.invokevirtual 269, 3) := dk_182 1 13 (dk_at dksX0_plan_0 1 rfl rfl)
theorem dX0_plan_4 : decode cX0_plan 4 = .ok (.iload_n 1, 1) := dk_27 (dk_at dksX0_plan_0 4 rfl rfl)
theorem dX0_plan_5 : decode cX0_plan 5 = .ok (.tableswitch 59 0 3 #[31, 39, 44, 54], 31) := by decide +kernel
theorem dX0_plan_36 : decode cX0_plan 36 = .ok (.aload_n 0, 1) := dk_42 (dk_at dksX0_plan_2 0 rfl rfl)
theorem dX0_plan_37 : decode cX0_plan 37 = .ok (.getfield 263, 3) := dk_180 1 7 (dk_at dksX0_plan_2 1 rfl rfl)
theorem dX0_plan_40 : decode cX0_plan 40 = .ok (.invokestatic 260, 3) := dk_184 1 4 (dk_at dksX0_plan_2 4 rfl rfl)
theorem dX0_plan_43 : decode cX0_plan 43 = .ok (.ireturn, 1) := dk_172 (dk_at dksX0_plan_2 7 rfl rfl)
theorem dX0_plan_44 : decode cX0_plan 44 = .ok (.aload_n 0, 1) := dk_42 (dk_at dksX0_plan_2 8 rfl rfl)
theorem dX0_plan_45 : decode cX0_plan 45 = .ok (.getfield 263, 3) := dk_180 1 7 (dk_at dksX0_plan_2 9 rfl rfl)
theorem dX0_plan_48 : decode cX0_plan 48 = .ok (.ireturn, 1) := dk_172 (dk_at dksX0_plan_2 12 rfl rfl)
theorem dX0_plan_49 : decode cX0_plan 49 = .ok (.aload_n 0, 1) := dk_42 (dk_at dksX0_plan_2 13 rfl rfl)
theorem dX0_plan_50 : decode cX0_plan 50 = .ok (.getfield 209, 3) := dk_180 0 209 (dk_at dksX0_plan_2 14 rfl rfl)
theorem dX0_plan_53 : decode cX0_plan 53 = .ok (.aload_n 0, 1) := dk_42 (dk_at dksX0_plan_2 17 rfl rfl)
theorem dX0_plan_54 : decode cX0_plan 54 = .ok (.getfield 263, 3) := dk_180 1 7 (dk_at dksX0_plan_2 18 rfl rfl)
theorem dX0_plan_57 : decode cX0_plan 57 = .ok (.iaload, 1) := dk_46 (dk_at dksX0_plan_2 21 rfl rfl)
theorem dX0_plan_58 : decode cX0_plan 58 = .ok (.ireturn, 1) := dk_172 (dk_at dksX0_plan_2 22 rfl rfl)
theorem dX0_plan_59 : decode cX0_plan 59 = .ok (.aload_n 0, 1) := dk_42 (dk_at dksX0_plan_2 23 rfl rfl)
theorem dX0_plan_60 : decode cX0_plan 60 = .ok (.getfield 266, 3) := dk_180 1 10 (dk_at dksX0_plan_3 0 rfl rfl)
theorem dX0_plan_63 : decode cX0_plan 63 = .ok (.ireturn, 1) := dk_172 (dk_at dksX0_plan_3 3 rfl rfl)
theorem dX0_plan_64 : decode cX0_plan 64 = .ok (.iconst (-1), 1) := dk_2 (dk_at dksX0_plan_3 4 rfl rfl)
theorem dX0_plan_65 : decode cX0_plan 65 = .ok (.ireturn, 1) := dk_172 (dk_at dksX0_plan_3 5 rfl rfl)
abbrev cX0_plan_2 : ByteArray := prog_1_method_42_code
def yX0_plan_2 : MethodName := ⟨RX0, "plan", "()V"⟩
def dkwX0_plan_2_7 : List UInt8 := [177]
abbrev dktX0_plan_2_7 : List UInt8 := dkwX0_plan_2_7 ++ []
def dkwX0_plan_2_6 : List UInt8 := [29, 130, 46, 182, 0, 248, 79, 42, 89, 180, 1, 10, 4, 96, 181, 1, 10, 28, 29, 130, 61, 167, 255, 200]
abbrev dktX0_plan_2_6 : List UInt8 := dkwX0_plan_2_6 ++ dktX0_plan_2_7
def dkwX0_plan_2_5 : List UInt8 := [180, 0, 212, 42, 180, 1, 10, 29, 79, 42, 180, 0, 215, 42, 180, 1, 10, 42, 29, 42, 180, 0, 209, 28]
abbrev dktX0_plan_2_5 : List UInt8 := dkwX0_plan_2_5 ++ dktX0_plan_2_6
def dkwX0_plan_2_4 : List UInt8 := [27, 181, 1, 7, 42, 3, 181, 1, 10, 27, 61, 28, 158, 0, 58, 42, 28, 182, 1, 1, 62, 42]
abbrev dktX0_plan_2_4 : List UInt8 := dkwX0_plan_2_4 ++ dktX0_plan_2_5
def dkwX0_plan_2_3 : List UInt8 := [42, 180, 0, 209, 28, 46, 42, 180, 0, 209, 27, 46, 162, 0, 5, 28, 60, 132, 2, 1, 167, 255, 178, 42]
abbrev dktX0_plan_2_3 : List UInt8 := dkwX0_plan_2_3 ++ dktX0_plan_2_4
def dkwX0_plan_2_2 : List UInt8 := [160, 0, 6, 167, 0, 38, 28, 184, 1, 4, 27, 184, 1, 4, 100, 62, 29, 157, 0, 22, 29, 154, 0, 20]
abbrev dktX0_plan_2_2 : List UInt8 := dkwX0_plan_2_2 ++ dktX0_plan_2_3
def dkwX0_plan_2_1 : List UInt8 := [180, 0, 209, 28, 42, 28, 42, 28, 182, 1, 1, 182, 0, 254, 79, 42, 180, 0, 209, 28, 46, 18, 238]
abbrev dktX0_plan_2_1 : List UInt8 := dkwX0_plan_2_1 ++ dktX0_plan_2_2
def dkwX0_plan_2_0 : List UInt8 := [42, 180, 0, 209, 3, 3, 79, 3, 60, 4, 61, 28, 4, 42, 180, 0, 235, 120, 162, 0, 74, 42]
abbrev dktX0_plan_2_0 : List UInt8 := dkwX0_plan_2_0 ++ dktX0_plan_2_1
theorem dksX0_plan_2_0 : cX0_plan_2.data.toList.drop 0 = dktX0_plan_2_0 := by decide +kernel
theorem dksX0_plan_2_1 : cX0_plan_2.data.toList.drop 22 = dktX0_plan_2_1 := dk_seg dksX0_plan_2_0 22 rfl rfl
theorem dksX0_plan_2_2 : cX0_plan_2.data.toList.drop 45 = dktX0_plan_2_2 := dk_seg dksX0_plan_2_1 23 rfl rfl
theorem dksX0_plan_2_3 : cX0_plan_2.data.toList.drop 69 = dktX0_plan_2_3 := dk_seg dksX0_plan_2_2 24 rfl rfl
theorem dksX0_plan_2_4 : cX0_plan_2.data.toList.drop 93 = dktX0_plan_2_4 := dk_seg dksX0_plan_2_3 24 rfl rfl
theorem dksX0_plan_2_5 : cX0_plan_2.data.toList.drop 115 = dktX0_plan_2_5 := dk_seg dksX0_plan_2_4 22 rfl rfl
theorem dksX0_plan_2_6 : cX0_plan_2.data.toList.drop 139 = dktX0_plan_2_6 := dk_seg dksX0_plan_2_5 24 rfl rfl
theorem dksX0_plan_2_7 : cX0_plan_2.data.toList.drop 163 = dktX0_plan_2_7 := dk_seg dksX0_plan_2_6 24 rfl rfl
theorem dX0_plan_2_0 : decode cX0_plan_2 0 = .ok (.aload_n 0, 1) := dk_42 (dk_at dksX0_plan_2_0 0 rfl rfl)
theorem dX0_plan_2_1 : decode cX0_plan_2 1 = .ok (.getfield 209, 3) := dk_180 0 209 (dk_at dksX0_plan_2_0 1 rfl rfl)
theorem dX0_plan_2_4 : decode cX0_plan_2 4 = .ok (.iconst 0, 1) := dk_3 (dk_at dksX0_plan_2_0 4 rfl rfl)
theorem dX0_plan_2_5 : decode cX0_plan_2 5 = .ok (.iconst 0, 1) := dk_3 (dk_at dksX0_plan_2_0 5 rfl rfl)
theorem dX0_plan_2_6 : decode cX0_plan_2 6 = .ok (.iastore, 1) := dk_79 (dk_at dksX0_plan_2_0 6 rfl rfl)
theorem dX0_plan_2_7 : decode cX0_plan_2 7 = .ok (.iconst 0, 1) := dk_3 (dk_at dksX0_plan_2_0 7 rfl rfl)
theorem dX0_plan_2_8 : decode cX0_plan_2 8 = .ok (.istore_n 1, 1) := dk_60 (dk_at dksX0_plan_2_0 8 rfl rfl)
theorem dX0_plan_2_9 : decode cX0_plan_2 9 = .ok (.iconst 1, 1) := dk_4 (dk_at dksX0_plan_2_0 9 rfl rfl)
theorem dX0_plan_2_10 : decode cX0_plan_2 10 = .ok (.istore_n 2, 1) := dk_61 (dk_at dksX0_plan_2_0 10 rfl rfl)
theorem dX0_plan_2_11 : decode cX0_plan_2 11 = .ok (.iload_n 2, 1) := dk_28 (dk_at dksX0_plan_2_0 11 rfl rfl)
theorem dX0_plan_2_12 : decode cX0_plan_2 12 = .ok (.iconst 1, 1) := dk_4 (dk_at dksX0_plan_2_0 12 rfl rfl)
theorem dX0_plan_2_13 : decode cX0_plan_2 13 = .ok (.aload_n 0, 1) := dk_42 (dk_at dksX0_plan_2_0 13 rfl rfl)
theorem dX0_plan_2_14 : decode cX0_plan_2 14 = .ok (.getfield 235, 3) := dk_180 0 235 (dk_at dksX0_plan_2_0 14 rfl rfl)
theorem dX0_plan_2_17 : decode cX0_plan_2 17 = .ok (.ishl, 1) := dk_120 (dk_at dksX0_plan_2_0 17 rfl rfl)
theorem dX0_plan_2_18 : decode cX0_plan_2 18 = .ok (.if_icmp .ge 74, 3) := dk_162 0 74 (dk_at dksX0_plan_2_0 18 rfl rfl)
theorem dX0_plan_2_21 : decode cX0_plan_2 21 = .ok (.aload_n 0, 1) := dk_42 (dk_at dksX0_plan_2_0 21 rfl rfl)
theorem dX0_plan_2_22 : decode cX0_plan_2 22 = .ok (.getfield 209, 3) := dk_180 0 209 (dk_at dksX0_plan_2_1 0 rfl rfl)
theorem dX0_plan_2_25 : decode cX0_plan_2 25 = .ok (.iload_n 2, 1) := dk_28 (dk_at dksX0_plan_2_1 3 rfl rfl)
theorem dX0_plan_2_26 : decode cX0_plan_2 26 = .ok (.aload_n 0, 1) := dk_42 (dk_at dksX0_plan_2_1 4 rfl rfl)
theorem dX0_plan_2_27 : decode cX0_plan_2 27 = .ok (.iload_n 2, 1) := dk_28 (dk_at dksX0_plan_2_1 5 rfl rfl)
theorem dX0_plan_2_28 : decode cX0_plan_2 28 = .ok (.aload_n 0, 1) := dk_42 (dk_at dksX0_plan_2_1 6 rfl rfl)
theorem dX0_plan_2_29 : decode cX0_plan_2 29 = .ok (.iload_n 2, 1) := dk_28 (dk_at dksX0_plan_2_1 7 rfl rfl)
theorem dX0_plan_2_30 : decode cX0_plan_2 30 = .ok (.invokevirtual 257, 3) := dk_182 1 1 (dk_at dksX0_plan_2_1 8 rfl rfl)
theorem dX0_plan_2_33 : decode cX0_plan_2 33 = .ok (.invokevirtual 254, 3) := dk_182 0 254 (dk_at dksX0_plan_2_1 11 rfl rfl)
theorem dX0_plan_2_36 : decode cX0_plan_2 36 = .ok (.iastore, 1) := dk_79 (dk_at dksX0_plan_2_1 14 rfl rfl)
theorem dX0_plan_2_37 : decode cX0_plan_2 37 = .ok (.aload_n 0, 1) := dk_42 (dk_at dksX0_plan_2_1 15 rfl rfl)
theorem dX0_plan_2_38 : decode cX0_plan_2 38 = .ok (.getfield 209, 3) := dk_180 0 209 (dk_at dksX0_plan_2_1 16 rfl rfl)
theorem dX0_plan_2_41 : decode cX0_plan_2 41 = .ok (.iload_n 2, 1) := dk_28 (dk_at dksX0_plan_2_1 19 rfl rfl)
theorem dX0_plan_2_42 : decode cX0_plan_2 42 = .ok (.iaload, 1) := dk_46 (dk_at dksX0_plan_2_1 20 rfl rfl)
theorem dX0_plan_2_43 : decode cX0_plan_2 43 = .ok (.ldc 238, 2) := dk_18 238 (dk_at dksX0_plan_2_1 21 rfl rfl)
theorem dX0_plan_2_45 : decode cX0_plan_2 45 = .ok (.if_icmp .ne 6, 3) := dk_160 0 6 (dk_at dksX0_plan_2_2 0 rfl rfl)
theorem dX0_plan_2_48 : decode cX0_plan_2 48 = .ok (.goto 38, 3) := dk_167 0 38 (dk_at dksX0_plan_2_2 3 rfl rfl)
theorem dX0_plan_2_51 : decode cX0_plan_2 51 = .ok (.iload_n 2, 1) := dk_28 (dk_at dksX0_plan_2_2 6 rfl rfl)
theorem dX0_plan_2_52 : decode cX0_plan_2 52 = .ok (.invokestatic 260, 3) := dk_184 1 4 (dk_at dksX0_plan_2_2 7 rfl rfl)
theorem dX0_plan_2_55 : decode cX0_plan_2 55 = .ok (.iload_n 1, 1) := dk_27 (dk_at dksX0_plan_2_2 10 rfl rfl)
theorem dX0_plan_2_56 : decode cX0_plan_2 56 = .ok (.invokestatic 260, 3) := dk_184 1 4 (dk_at dksX0_plan_2_2 11 rfl rfl)
theorem dX0_plan_2_59 : decode cX0_plan_2 59 = .ok (.isub, 1) := dk_100 (dk_at dksX0_plan_2_2 14 rfl rfl)
theorem dX0_plan_2_60 : decode cX0_plan_2 60 = .ok (.istore_n 3, 1) := dk_62 (dk_at dksX0_plan_2_2 15 rfl rfl)
theorem dX0_plan_2_61 : decode cX0_plan_2 61 = .ok (.iload_n 3, 1) := dk_29 (dk_at dksX0_plan_2_2 16 rfl rfl)
theorem dX0_plan_2_62 : decode cX0_plan_2 62 = .ok (.ifCond .gt 22, 3) := dk_157 0 22 (dk_at dksX0_plan_2_2 17 rfl rfl)
theorem dX0_plan_2_65 : decode cX0_plan_2 65 = .ok (.iload_n 3, 1) := dk_29 (dk_at dksX0_plan_2_2 20 rfl rfl)
theorem dX0_plan_2_66 : decode cX0_plan_2 66 = .ok (.ifCond .ne 20, 3) := dk_154 0 20 (dk_at dksX0_plan_2_2 21 rfl rfl)
theorem dX0_plan_2_69 : decode cX0_plan_2 69 = .ok (.aload_n 0, 1) := dk_42 (dk_at dksX0_plan_2_3 0 rfl rfl)
theorem dX0_plan_2_70 : decode cX0_plan_2 70 = .ok (.getfield 209, 3) := dk_180 0 209 (dk_at dksX0_plan_2_3 1 rfl rfl)
theorem dX0_plan_2_73 : decode cX0_plan_2 73 = .ok (.iload_n 2, 1) := dk_28 (dk_at dksX0_plan_2_3 4 rfl rfl)
theorem dX0_plan_2_74 : decode cX0_plan_2 74 = .ok (.iaload, 1) := dk_46 (dk_at dksX0_plan_2_3 5 rfl rfl)
theorem dX0_plan_2_75 : decode cX0_plan_2 75 = .ok (.aload_n 0, 1) := dk_42 (dk_at dksX0_plan_2_3 6 rfl rfl)
theorem dX0_plan_2_76 : decode cX0_plan_2 76 = .ok (.getfield 209, 3) := dk_180 0 209 (dk_at dksX0_plan_2_3 7 rfl rfl)
theorem dX0_plan_2_79 : decode cX0_plan_2 79 = .ok (.iload_n 1, 1) := dk_27 (dk_at dksX0_plan_2_3 10 rfl rfl)
theorem dX0_plan_2_80 : decode cX0_plan_2 80 = .ok (.iaload, 1) := dk_46 (dk_at dksX0_plan_2_3 11 rfl rfl)
theorem dX0_plan_2_81 : decode cX0_plan_2 81 = .ok (.if_icmp .ge 5, 3) := dk_162 0 5 (dk_at dksX0_plan_2_3 12 rfl rfl)
theorem dX0_plan_2_84 : decode cX0_plan_2 84 = .ok (.iload_n 2, 1) := dk_28 (dk_at dksX0_plan_2_3 15 rfl rfl)
theorem dX0_plan_2_85 : decode cX0_plan_2 85 = .ok (.istore_n 1, 1) := dk_60 (dk_at dksX0_plan_2_3 16 rfl rfl)
theorem dX0_plan_2_86 : decode cX0_plan_2 86 = .ok (.iinc 2 1, 3) := dk_132 2 1 (dk_at dksX0_plan_2_3 17 rfl rfl)
theorem dX0_plan_2_89 : decode cX0_plan_2 89 = .ok (.goto (-78), 3) := dk_167 255 178 (dk_at dksX0_plan_2_3 20 rfl rfl)
theorem dX0_plan_2_92 : decode cX0_plan_2 92 = .ok (.aload_n 0, 1) := dk_42 (dk_at dksX0_plan_2_3 23 rfl rfl)
theorem dX0_plan_2_93 : decode cX0_plan_2 93 = .ok (.iload_n 1, 1) := dk_27 (dk_at dksX0_plan_2_4 0 rfl rfl)
theorem dX0_plan_2_94 : decode cX0_plan_2 94 = .ok (.putfield 263, 3) := dk_181 1 7 (dk_at dksX0_plan_2_4 1 rfl rfl)
theorem dX0_plan_2_97 : decode cX0_plan_2 97 = .ok (.aload_n 0, 1) := dk_42 (dk_at dksX0_plan_2_4 4 rfl rfl)
theorem dX0_plan_2_98 : decode cX0_plan_2 98 = .ok (.iconst 0, 1) := dk_3 (dk_at dksX0_plan_2_4 5 rfl rfl)
theorem dX0_plan_2_99 : decode cX0_plan_2 99 = .ok (.putfield 266, 3) := dk_181 1 10 (dk_at dksX0_plan_2_4 6 rfl rfl)
theorem dX0_plan_2_102 : decode cX0_plan_2 102 = .ok (.iload_n 1, 1) := dk_27 (dk_at dksX0_plan_2_4 9 rfl rfl)
theorem dX0_plan_2_103 : decode cX0_plan_2 103 = .ok (.istore_n 2, 1) := dk_61 (dk_at dksX0_plan_2_4 10 rfl rfl)
theorem dX0_plan_2_104 : decode cX0_plan_2 104 = .ok (.iload_n 2, 1) := dk_28 (dk_at dksX0_plan_2_4 11 rfl rfl)
theorem dX0_plan_2_105 : decode cX0_plan_2 105 = .ok (.ifCond .le 58, 3) := dk_158 0 58 (dk_at dksX0_plan_2_4 12 rfl rfl)
theorem dX0_plan_2_108 : decode cX0_plan_2 108 = .ok (.aload_n 0, 1) := dk_42 (dk_at dksX0_plan_2_4 15 rfl rfl)
theorem dX0_plan_2_109 : decode cX0_plan_2 109 = .ok (.iload_n 2, 1) := dk_28 (dk_at dksX0_plan_2_4 16 rfl rfl)
theorem dX0_plan_2_110 : decode cX0_plan_2 110 = .ok (.invokevirtual 257, 3) := dk_182 1 1 (dk_at dksX0_plan_2_4 17 rfl rfl)
theorem dX0_plan_2_113 : decode cX0_plan_2 113 = .ok (.istore_n 3, 1) := dk_62 (dk_at dksX0_plan_2_4 20 rfl rfl)
theorem dX0_plan_2_114 : decode cX0_plan_2 114 = .ok (.aload_n 0, 1) := dk_42 (dk_at dksX0_plan_2_4 21 rfl rfl)
theorem dX0_plan_2_115 : decode cX0_plan_2 115 = .ok (.getfield 212, 3) := dk_180 0 212 (dk_at dksX0_plan_2_5 0 rfl rfl)
theorem dX0_plan_2_118 : decode cX0_plan_2 118 = .ok (.aload_n 0, 1) := dk_42 (dk_at dksX0_plan_2_5 3 rfl rfl)
theorem dX0_plan_2_119 : decode cX0_plan_2 119 = .ok (.getfield 266, 3) := dk_180 1 10 (dk_at dksX0_plan_2_5 4 rfl rfl)
theorem dX0_plan_2_122 : decode cX0_plan_2 122 = .ok (.iload_n 3, 1) := dk_29 (dk_at dksX0_plan_2_5 7 rfl rfl)
theorem dX0_plan_2_123 : decode cX0_plan_2 123 = .ok (.iastore, 1) := dk_79 (dk_at dksX0_plan_2_5 8 rfl rfl)
theorem dX0_plan_2_124 : decode cX0_plan_2 124 = .ok (.aload_n 0, 1) := dk_42 (dk_at dksX0_plan_2_5 9 rfl rfl)
theorem dX0_plan_2_125 : decode cX0_plan_2 125 = .ok (.getfield 215, 3) := dk_180 0 215 (dk_at dksX0_plan_2_5 10 rfl rfl)
theorem dX0_plan_2_128 : decode cX0_plan_2 128 = .ok (.aload_n 0, 1) := dk_42 (dk_at dksX0_plan_2_5 13 rfl rfl)
theorem dX0_plan_2_129 : decode cX0_plan_2 129 = .ok (.getfield 266, 3) := dk_180 1 10 (dk_at dksX0_plan_2_5 14 rfl rfl)
theorem dX0_plan_2_132 : decode cX0_plan_2 132 = .ok (.aload_n 0, 1) := dk_42 (dk_at dksX0_plan_2_5 17 rfl rfl)
theorem dX0_plan_2_133 : decode cX0_plan_2 133 = .ok (.iload_n 3, 1) := dk_29 (dk_at dksX0_plan_2_5 18 rfl rfl)
theorem dX0_plan_2_134 : decode cX0_plan_2 134 = .ok (.aload_n 0, 1) := dk_42 (dk_at dksX0_plan_2_5 19 rfl rfl)
theorem dX0_plan_2_135 : decode cX0_plan_2 135 = .ok (.getfield 209, 3) := dk_180 0 209 (dk_at dksX0_plan_2_5 20 rfl rfl)
theorem dX0_plan_2_138 : decode cX0_plan_2 138 = .ok (.iload_n 2, 1) := dk_28 (dk_at dksX0_plan_2_5 23 rfl rfl)
theorem dX0_plan_2_139 : decode cX0_plan_2 139 = .ok (.iload_n 3, 1) := dk_29 (dk_at dksX0_plan_2_6 0 rfl rfl)
theorem dX0_plan_2_140 : decode cX0_plan_2 140 = .ok (.ixor, 1) := dk_130 (dk_at dksX0_plan_2_6 1 rfl rfl)
theorem dX0_plan_2_141 : decode cX0_plan_2 141 = .ok (.iaload, 1) := dk_46 (dk_at dksX0_plan_2_6 2 rfl rfl)
theorem dX0_plan_2_142 : decode cX0_plan_2 142 = .ok (.invokevirtual 248, 3) := dk_182 0 248 (dk_at dksX0_plan_2_6 3 rfl rfl)
theorem dX0_plan_2_145 : decode cX0_plan_2 145 = .ok (.iastore, 1) := dk_79 (dk_at dksX0_plan_2_6 6 rfl rfl)
theorem dX0_plan_2_146 : decode cX0_plan_2 146 = .ok (.aload_n 0, 1) := dk_42 (dk_at dksX0_plan_2_6 7 rfl rfl)
theorem dX0_plan_2_147 : decode cX0_plan_2 147 = .ok (.dup, 1) := dk_89 (dk_at dksX0_plan_2_6 8 rfl rfl)
theorem dX0_plan_2_148 : decode cX0_plan_2 148 = .ok (.getfield 266, 3) := dk_180 1 10 (dk_at dksX0_plan_2_6 9 rfl rfl)
theorem dX0_plan_2_151 : decode cX0_plan_2 151 = .ok (.iconst 1, 1) := dk_4 (dk_at dksX0_plan_2_6 12 rfl rfl)
theorem dX0_plan_2_152 : decode cX0_plan_2 152 = .ok (.iadd, 1) := dk_96 (dk_at dksX0_plan_2_6 13 rfl rfl)
theorem dX0_plan_2_153 : decode cX0_plan_2 153 = .ok (.putfield 266, 3) := dk_181 1 10 (dk_at dksX0_plan_2_6 14 rfl rfl)
theorem dX0_plan_2_156 : decode cX0_plan_2 156 = .ok (.iload_n 2, 1) := dk_28 (dk_at dksX0_plan_2_6 17 rfl rfl)
theorem dX0_plan_2_157 : decode cX0_plan_2 157 = .ok (.iload_n 3, 1) := dk_29 (dk_at dksX0_plan_2_6 18 rfl rfl)
theorem dX0_plan_2_158 : decode cX0_plan_2 158 = .ok (.ixor, 1) := dk_130 (dk_at dksX0_plan_2_6 19 rfl rfl)
theorem dX0_plan_2_159 : decode cX0_plan_2 159 = .ok (.istore_n 2, 1) := dk_61 (dk_at dksX0_plan_2_6 20 rfl rfl)
theorem dX0_plan_2_160 : decode cX0_plan_2 160 = .ok (.goto (-56), 3) := dk_167 255 200 (dk_at dksX0_plan_2_6 21 rfl rfl)
theorem dX0_plan_2_163 : decode cX0_plan_2 163 = .ok (.return_, 1) := dk_177 (dk_at dksX0_plan_2_7 0 rfl rfl)
abbrev cX0_lastOf : ByteArray := prog_1_method_41_code
def yX0_lastOf : MethodName := ⟨RX0, "lastOf", "(I)I"⟩
def dkwX0_lastOf_2 : List UInt8 := [100, 27, 126, 62, 167, 255, 212, 28, 172]
abbrev dktX0_lastOf_2 : List UInt8 := dkwX0_lastOf_2 ++ []
def dkwX0_lastOf_1 : List UInt8 := [182, 0, 254, 42, 27, 28, 182, 0, 254, 162, 0, 5, 29, 61, 29, 27, 160, 0, 6, 167, 0, 12, 29, 27]
abbrev dktX0_lastOf_1 : List UInt8 := dkwX0_lastOf_1 ++ dktX0_lastOf_2
def dkwX0_lastOf_0 : List UInt8 := [3, 61, 27, 27, 116, 126, 62, 29, 158, 0, 46, 29, 27, 163, 0, 41, 28, 153, 0, 18, 42, 27, 29]
abbrev dktX0_lastOf_0 : List UInt8 := dkwX0_lastOf_0 ++ dktX0_lastOf_1
theorem dksX0_lastOf_0 : cX0_lastOf.data.toList.drop 0 = dktX0_lastOf_0 := by decide +kernel
theorem dksX0_lastOf_1 : cX0_lastOf.data.toList.drop 23 = dktX0_lastOf_1 := dk_seg dksX0_lastOf_0 23 rfl rfl
theorem dksX0_lastOf_2 : cX0_lastOf.data.toList.drop 47 = dktX0_lastOf_2 := dk_seg dksX0_lastOf_1 24 rfl rfl
theorem dX0_lastOf_0 : decode cX0_lastOf 0 = .ok (.iconst 0, 1) := dk_3 (dk_at dksX0_lastOf_0 0 rfl rfl)
theorem dX0_lastOf_1 : decode cX0_lastOf 1 = .ok (.istore_n 2, 1) := dk_61 (dk_at dksX0_lastOf_0 1 rfl rfl)
theorem dX0_lastOf_2 : decode cX0_lastOf 2 = .ok (.iload_n 1, 1) := dk_27 (dk_at dksX0_lastOf_0 2 rfl rfl)
theorem dX0_lastOf_3 : decode cX0_lastOf 3 = .ok (.iload_n 1, 1) := dk_27 (dk_at dksX0_lastOf_0 3 rfl rfl)
theorem dX0_lastOf_4 : decode cX0_lastOf 4 = .ok (.ineg, 1) := dk_116 (dk_at dksX0_lastOf_0 4 rfl rfl)
theorem dX0_lastOf_5 : decode cX0_lastOf 5 = .ok (.iand, 1) := dk_126 (dk_at dksX0_lastOf_0 5 rfl rfl)
theorem dX0_lastOf_6 : decode cX0_lastOf 6 = .ok (.istore_n 3, 1) := dk_62 (dk_at dksX0_lastOf_0 6 rfl rfl)
theorem dX0_lastOf_7 : decode cX0_lastOf 7 = .ok (.iload_n 3, 1) := dk_29 (dk_at dksX0_lastOf_0 7 rfl rfl)
theorem dX0_lastOf_8 : decode cX0_lastOf 8 = .ok (.ifCond .le 46, 3) := dk_158 0 46 (dk_at dksX0_lastOf_0 8 rfl rfl)
theorem dX0_lastOf_11 : decode cX0_lastOf 11 = .ok (.iload_n 3, 1) := dk_29 (dk_at dksX0_lastOf_0 11 rfl rfl)
theorem dX0_lastOf_12 : decode cX0_lastOf 12 = .ok (.iload_n 1, 1) := dk_27 (dk_at dksX0_lastOf_0 12 rfl rfl)
theorem dX0_lastOf_13 : decode cX0_lastOf 13 = .ok (.if_icmp .gt 41, 3) := dk_163 0 41 (dk_at dksX0_lastOf_0 13 rfl rfl)
theorem dX0_lastOf_16 : decode cX0_lastOf 16 = .ok (.iload_n 2, 1) := dk_28 (dk_at dksX0_lastOf_0 16 rfl rfl)
theorem dX0_lastOf_17 : decode cX0_lastOf 17 = .ok (.ifCond .eq 18, 3) := dk_153 0 18 (dk_at dksX0_lastOf_0 17 rfl rfl)
theorem dX0_lastOf_20 : decode cX0_lastOf 20 = .ok (.aload_n 0, 1) := dk_42 (dk_at dksX0_lastOf_0 20 rfl rfl)
theorem dX0_lastOf_21 : decode cX0_lastOf 21 = .ok (.iload_n 1, 1) := dk_27 (dk_at dksX0_lastOf_0 21 rfl rfl)
theorem dX0_lastOf_22 : decode cX0_lastOf 22 = .ok (.iload_n 3, 1) := dk_29 (dk_at dksX0_lastOf_0 22 rfl rfl)
theorem dX0_lastOf_23 : decode cX0_lastOf 23 = .ok (.invokevirtual 254, 3) := dk_182 0 254 (dk_at dksX0_lastOf_1 0 rfl rfl)
theorem dX0_lastOf_26 : decode cX0_lastOf 26 = .ok (.aload_n 0, 1) := dk_42 (dk_at dksX0_lastOf_1 3 rfl rfl)
theorem dX0_lastOf_27 : decode cX0_lastOf 27 = .ok (.iload_n 1, 1) := dk_27 (dk_at dksX0_lastOf_1 4 rfl rfl)
theorem dX0_lastOf_28 : decode cX0_lastOf 28 = .ok (.iload_n 2, 1) := dk_28 (dk_at dksX0_lastOf_1 5 rfl rfl)
theorem dX0_lastOf_29 : decode cX0_lastOf 29 = .ok (.invokevirtual 254, 3) := dk_182 0 254 (dk_at dksX0_lastOf_1 6 rfl rfl)
theorem dX0_lastOf_32 : decode cX0_lastOf 32 = .ok (.if_icmp .ge 5, 3) := dk_162 0 5 (dk_at dksX0_lastOf_1 9 rfl rfl)
theorem dX0_lastOf_35 : decode cX0_lastOf 35 = .ok (.iload_n 3, 1) := dk_29 (dk_at dksX0_lastOf_1 12 rfl rfl)
theorem dX0_lastOf_36 : decode cX0_lastOf 36 = .ok (.istore_n 2, 1) := dk_61 (dk_at dksX0_lastOf_1 13 rfl rfl)
theorem dX0_lastOf_37 : decode cX0_lastOf 37 = .ok (.iload_n 3, 1) := dk_29 (dk_at dksX0_lastOf_1 14 rfl rfl)
theorem dX0_lastOf_38 : decode cX0_lastOf 38 = .ok (.iload_n 1, 1) := dk_27 (dk_at dksX0_lastOf_1 15 rfl rfl)
theorem dX0_lastOf_39 : decode cX0_lastOf 39 = .ok (.if_icmp .ne 6, 3) := dk_160 0 6 (dk_at dksX0_lastOf_1 16 rfl rfl)
theorem dX0_lastOf_42 : decode cX0_lastOf 42 = .ok (.goto 12, 3) := dk_167 0 12 (dk_at dksX0_lastOf_1 19 rfl rfl)
theorem dX0_lastOf_45 : decode cX0_lastOf 45 = .ok (.iload_n 3, 1) := dk_29 (dk_at dksX0_lastOf_1 22 rfl rfl)
theorem dX0_lastOf_46 : decode cX0_lastOf 46 = .ok (.iload_n 1, 1) := dk_27 (dk_at dksX0_lastOf_1 23 rfl rfl)
theorem dX0_lastOf_47 : decode cX0_lastOf 47 = .ok (.isub, 1) := dk_100 (dk_at dksX0_lastOf_2 0 rfl rfl)
theorem dX0_lastOf_48 : decode cX0_lastOf 48 = .ok (.iload_n 1, 1) := dk_27 (dk_at dksX0_lastOf_2 1 rfl rfl)
theorem dX0_lastOf_49 : decode cX0_lastOf 49 = .ok (.iand, 1) := dk_126 (dk_at dksX0_lastOf_2 2 rfl rfl)
theorem dX0_lastOf_50 : decode cX0_lastOf 50 = .ok (.istore_n 3, 1) := dk_62 (dk_at dksX0_lastOf_2 3 rfl rfl)
theorem dX0_lastOf_51 : decode cX0_lastOf 51 = .ok (.goto (-44), 3) := dk_167 255 212 (dk_at dksX0_lastOf_2 4 rfl rfl)
theorem dX0_lastOf_54 : decode cX0_lastOf 54 = .ok (.iload_n 2, 1) := dk_28 (dk_at dksX0_lastOf_2 7 rfl rfl)
theorem dX0_lastOf_55 : decode cX0_lastOf 55 = .ok (.ireturn, 1) := dk_172 (dk_at dksX0_lastOf_2 8 rfl rfl)
abbrev cX0_outBy : ByteArray := prog_1_method_40_code
def yX0_outBy : MethodName := ⟨RX0, "outBy", "(II)I"⟩
def dkwX0_outBy_2 : List UInt8 := [172]
abbrev dktX0_outBy_2 : List UInt8 := dkwX0_outBy_2 ++ []
def dkwX0_outBy_1 : List UInt8 := [130, 46, 182, 0, 248, 62, 29, 18, 238, 160, 0, 8, 18, 238, 167, 0, 10, 29, 42, 28, 182, 0, 251, 96]
abbrev dktX0_outBy_1 : List UInt8 := dkwX0_outBy_1 ++ dktX0_outBy_2
def dkwX0_outBy_0 : List UInt8 := [42, 180, 0, 209, 27, 28, 130, 46, 18, 238, 160, 0, 6, 18, 238, 172, 42, 28, 42, 180, 0, 209, 27, 28]
abbrev dktX0_outBy_0 : List UInt8 := dkwX0_outBy_0 ++ dktX0_outBy_1
theorem dksX0_outBy_0 : cX0_outBy.data.toList.drop 0 = dktX0_outBy_0 := by decide +kernel
theorem dksX0_outBy_1 : cX0_outBy.data.toList.drop 24 = dktX0_outBy_1 := dk_seg dksX0_outBy_0 24 rfl rfl
theorem dksX0_outBy_2 : cX0_outBy.data.toList.drop 48 = dktX0_outBy_2 := dk_seg dksX0_outBy_1 24 rfl rfl
theorem dX0_outBy_0 : decode cX0_outBy 0 = .ok (.aload_n 0, 1) := dk_42 (dk_at dksX0_outBy_0 0 rfl rfl)
theorem dX0_outBy_1 : decode cX0_outBy 1 = .ok (.getfield 209, 3) := dk_180 0 209 (dk_at dksX0_outBy_0 1 rfl rfl)
theorem dX0_outBy_4 : decode cX0_outBy 4 = .ok (.iload_n 1, 1) := dk_27 (dk_at dksX0_outBy_0 4 rfl rfl)
theorem dX0_outBy_5 : decode cX0_outBy 5 = .ok (.iload_n 2, 1) := dk_28 (dk_at dksX0_outBy_0 5 rfl rfl)
theorem dX0_outBy_6 : decode cX0_outBy 6 = .ok (.ixor, 1) := dk_130 (dk_at dksX0_outBy_0 6 rfl rfl)
theorem dX0_outBy_7 : decode cX0_outBy 7 = .ok (.iaload, 1) := dk_46 (dk_at dksX0_outBy_0 7 rfl rfl)
theorem dX0_outBy_8 : decode cX0_outBy 8 = .ok (.ldc 238, 2) := dk_18 238 (dk_at dksX0_outBy_0 8 rfl rfl)
theorem dX0_outBy_10 : decode cX0_outBy 10 = .ok (.if_icmp .ne 6, 3) := dk_160 0 6 (dk_at dksX0_outBy_0 10 rfl rfl)
theorem dX0_outBy_13 : decode cX0_outBy 13 = .ok (.ldc 238, 2) := dk_18 238 (dk_at dksX0_outBy_0 13 rfl rfl)
theorem dX0_outBy_15 : decode cX0_outBy 15 = .ok (.ireturn, 1) := dk_172 (dk_at dksX0_outBy_0 15 rfl rfl)
theorem dX0_outBy_16 : decode cX0_outBy 16 = .ok (.aload_n 0, 1) := dk_42 (dk_at dksX0_outBy_0 16 rfl rfl)
theorem dX0_outBy_17 : decode cX0_outBy 17 = .ok (.iload_n 2, 1) := dk_28 (dk_at dksX0_outBy_0 17 rfl rfl)
theorem dX0_outBy_18 : decode cX0_outBy 18 = .ok (.aload_n 0, 1) := dk_42 (dk_at dksX0_outBy_0 18 rfl rfl)
theorem dX0_outBy_19 : decode cX0_outBy 19 = .ok (.getfield 209, 3) := dk_180 0 209 (dk_at dksX0_outBy_0 19 rfl rfl)
theorem dX0_outBy_22 : decode cX0_outBy 22 = .ok (.iload_n 1, 1) := dk_27 (dk_at dksX0_outBy_0 22 rfl rfl)
theorem dX0_outBy_23 : decode cX0_outBy 23 = .ok (.iload_n 2, 1) := dk_28 (dk_at dksX0_outBy_0 23 rfl rfl)
theorem dX0_outBy_24 : decode cX0_outBy 24 = .ok (.ixor, 1) := dk_130 (dk_at dksX0_outBy_1 0 rfl rfl)
theorem dX0_outBy_25 : decode cX0_outBy 25 = .ok (.iaload, 1) := dk_46 (dk_at dksX0_outBy_1 1 rfl rfl)
theorem dX0_outBy_26 : decode cX0_outBy 26 = .ok (.invokevirtual 248, 3) := dk_182 0 248 (dk_at dksX0_outBy_1 2 rfl rfl)
theorem dX0_outBy_29 : decode cX0_outBy 29 = .ok (.istore_n 3, 1) := dk_62 (dk_at dksX0_outBy_1 5 rfl rfl)
theorem dX0_outBy_30 : decode cX0_outBy 30 = .ok (.iload_n 3, 1) := dk_29 (dk_at dksX0_outBy_1 6 rfl rfl)
theorem dX0_outBy_31 : decode cX0_outBy 31 = .ok (.ldc 238, 2) := dk_18 238 (dk_at dksX0_outBy_1 7 rfl rfl)
theorem dX0_outBy_33 : decode cX0_outBy 33 = .ok (.if_icmp .ne 8, 3) := dk_160 0 8 (dk_at dksX0_outBy_1 9 rfl rfl)
theorem dX0_outBy_36 : decode cX0_outBy 36 = .ok (.ldc 238, 2) := dk_18 238 (dk_at dksX0_outBy_1 12 rfl rfl)
theorem dX0_outBy_38 : decode cX0_outBy 38 = .ok (.goto 10, 3) := dk_167 0 10 (dk_at dksX0_outBy_1 14 rfl rfl)
theorem dX0_outBy_41 : decode cX0_outBy 41 = .ok (.iload_n 3, 1) := dk_29 (dk_at dksX0_outBy_1 17 rfl rfl)
theorem dX0_outBy_42 : decode cX0_outBy 42 = .ok (.aload_n 0, 1) := dk_42 (dk_at dksX0_outBy_1 18 rfl rfl)
theorem dX0_outBy_43 : decode cX0_outBy 43 = .ok (.iload_n 2, 1) := dk_28 (dk_at dksX0_outBy_1 19 rfl rfl)
theorem dX0_outBy_44 : decode cX0_outBy 44 = .ok (.invokevirtual 251, 3) := dk_182 0 251 (dk_at dksX0_outBy_1 20 rfl rfl)
theorem dX0_outBy_47 : decode cX0_outBy 47 = .ok (.iadd, 1) := dk_96 (dk_at dksX0_outBy_1 23 rfl rfl)
theorem dX0_outBy_48 : decode cX0_outBy 48 = .ok (.ireturn, 1) := dk_172 (dk_at dksX0_outBy_2 0 rfl rfl)
abbrev cX0_begins : ByteArray := prog_1_method_38_code
def yX0_begins : MethodName := ⟨RX0, "begins", "(II)I"⟩
def dkwX0_begins_5 : List UInt8 := [21, 7, 21, 4, 42, 180, 0, 206, 96, 164, 0, 8, 18, 238, 167, 0, 5, 21, 7, 172]
abbrev dktX0_begins_5 : List UInt8 := dkwX0_begins_5 ++ []
def dkwX0_begins_4 : List UInt8 := [132, 7, 1, 167, 255, 175, 28, 21, 5, 184, 0, 125, 54, 7, 21, 6, 42, 180, 0, 197, 163, 0, 15]
abbrev dktX0_begins_4 : List UInt8 := dkwX0_begins_4 ++ dktX0_begins_5
def dkwX0_begins_3 : List UInt8 := [184, 0, 239, 54, 4, 21, 5, 42, 180, 0, 194, 21, 7, 46, 184, 0, 125, 54, 5, 132, 6, 1]
abbrev dktX0_begins_3 : List UInt8 := dkwX0_begins_3 ++ dktX0_begins_4
def dkwX0_begins_2 : List UInt8 := [159, 0, 6, 18, 238, 172, 42, 180, 0, 191, 21, 7, 46, 62, 21, 4, 42, 180, 0, 194, 21, 7, 46]
abbrev dktX0_begins_2 : List UInt8 := dkwX0_begins_2 ++ dktX0_begins_3
def dkwX0_begins_1 : List UInt8 := [27, 21, 7, 122, 4, 126, 154, 0, 6, 167, 0, 60, 29, 155, 0, 17, 42, 180, 0, 191, 21, 7, 46, 29]
abbrev dktX0_begins_1 : List UInt8 := dkwX0_begins_1 ++ dktX0_begins_2
def dkwX0_begins_0 : List UInt8 := [2, 62, 18, 238, 54, 4, 3, 54, 5, 3, 54, 6, 3, 54, 7, 21, 7, 42, 180, 0, 235, 162, 0, 78]
abbrev dktX0_begins_0 : List UInt8 := dkwX0_begins_0 ++ dktX0_begins_1
theorem dksX0_begins_0 : cX0_begins.data.toList.drop 0 = dktX0_begins_0 := by decide +kernel
theorem dksX0_begins_1 : cX0_begins.data.toList.drop 24 = dktX0_begins_1 := dk_seg dksX0_begins_0 24 rfl rfl
theorem dksX0_begins_2 : cX0_begins.data.toList.drop 48 = dktX0_begins_2 := dk_seg dksX0_begins_1 24 rfl rfl
theorem dksX0_begins_3 : cX0_begins.data.toList.drop 71 = dktX0_begins_3 := dk_seg dksX0_begins_2 23 rfl rfl
theorem dksX0_begins_4 : cX0_begins.data.toList.drop 93 = dktX0_begins_4 := dk_seg dksX0_begins_3 22 rfl rfl
theorem dksX0_begins_5 : cX0_begins.data.toList.drop 116 = dktX0_begins_5 := dk_seg dksX0_begins_4 23 rfl rfl
theorem dX0_begins_0 : decode cX0_begins 0 = .ok (.iconst (-1), 1) := dk_2 (dk_at dksX0_begins_0 0 rfl rfl)
theorem dX0_begins_1 : decode cX0_begins 1 = .ok (.istore_n 3, 1) := dk_62 (dk_at dksX0_begins_0 1 rfl rfl)
theorem dX0_begins_2 : decode cX0_begins 2 = .ok (.ldc 238, 2) := dk_18 238 (dk_at dksX0_begins_0 2 rfl rfl)
theorem dX0_begins_4 : decode cX0_begins 4 = .ok (.istore 4, 2) := dk_54 4 (dk_at dksX0_begins_0 4 rfl rfl)
theorem dX0_begins_6 : decode cX0_begins 6 = .ok (.iconst 0, 1) := dk_3 (dk_at dksX0_begins_0 6 rfl rfl)
theorem dX0_begins_7 : decode cX0_begins 7 = .ok (.istore 5, 2) := dk_54 5 (dk_at dksX0_begins_0 7 rfl rfl)
theorem dX0_begins_9 : decode cX0_begins 9 = .ok (.iconst 0, 1) := dk_3 (dk_at dksX0_begins_0 9 rfl rfl)
theorem dX0_begins_10 : decode cX0_begins 10 = .ok (.istore 6, 2) := dk_54 6 (dk_at dksX0_begins_0 10 rfl rfl)
theorem dX0_begins_12 : decode cX0_begins 12 = .ok (.iconst 0, 1) := dk_3 (dk_at dksX0_begins_0 12 rfl rfl)
theorem dX0_begins_13 : decode cX0_begins 13 = .ok (.istore 7, 2) := dk_54 7 (dk_at dksX0_begins_0 13 rfl rfl)
theorem dX0_begins_15 : decode cX0_begins 15 = .ok (.iload 7, 2) := dk_21 7 (dk_at dksX0_begins_0 15 rfl rfl)
theorem dX0_begins_17 : decode cX0_begins 17 = .ok (.aload_n 0, 1) := dk_42 (dk_at dksX0_begins_0 17 rfl rfl)
theorem dX0_begins_18 : decode cX0_begins 18 = .ok (.getfield 235, 3) := dk_180 0 235 (dk_at dksX0_begins_0 18 rfl rfl)
theorem dX0_begins_21 : decode cX0_begins 21 = .ok (.if_icmp .ge 78, 3) := dk_162 0 78 (dk_at dksX0_begins_0 21 rfl rfl)
theorem dX0_begins_24 : decode cX0_begins 24 = .ok (.iload_n 1, 1) := dk_27 (dk_at dksX0_begins_1 0 rfl rfl)
theorem dX0_begins_25 : decode cX0_begins 25 = .ok (.iload 7, 2) := dk_21 7 (dk_at dksX0_begins_1 1 rfl rfl)
theorem dX0_begins_27 : decode cX0_begins 27 = .ok (.ishr, 1) := dk_122 (dk_at dksX0_begins_1 3 rfl rfl)
theorem dX0_begins_28 : decode cX0_begins 28 = .ok (.iconst 1, 1) := dk_4 (dk_at dksX0_begins_1 4 rfl rfl)
theorem dX0_begins_29 : decode cX0_begins 29 = .ok (.iand, 1) := dk_126 (dk_at dksX0_begins_1 5 rfl rfl)
theorem dX0_begins_30 : decode cX0_begins 30 = .ok (.ifCond .ne 6, 3) := dk_154 0 6 (dk_at dksX0_begins_1 6 rfl rfl)
theorem dX0_begins_33 : decode cX0_begins 33 = .ok (.goto 60, 3) := dk_167 0 60 (dk_at dksX0_begins_1 9 rfl rfl)
theorem dX0_begins_36 : decode cX0_begins 36 = .ok (.iload_n 3, 1) := dk_29 (dk_at dksX0_begins_1 12 rfl rfl)
theorem dX0_begins_37 : decode cX0_begins 37 = .ok (.ifCond .lt 17, 3) := dk_155 0 17 (dk_at dksX0_begins_1 13 rfl rfl)
theorem dX0_begins_40 : decode cX0_begins 40 = .ok (.aload_n 0, 1) := dk_42 (dk_at dksX0_begins_1 16 rfl rfl)
theorem dX0_begins_41 : decode cX0_begins 41 = .ok (.getfield 191, 3) := dk_180 0 191 (dk_at dksX0_begins_1 17 rfl rfl)
theorem dX0_begins_44 : decode cX0_begins 44 = .ok (.iload 7, 2) := dk_21 7 (dk_at dksX0_begins_1 20 rfl rfl)
theorem dX0_begins_46 : decode cX0_begins 46 = .ok (.iaload, 1) := dk_46 (dk_at dksX0_begins_1 22 rfl rfl)
theorem dX0_begins_47 : decode cX0_begins 47 = .ok (.iload_n 3, 1) := dk_29 (dk_at dksX0_begins_1 23 rfl rfl)
theorem dX0_begins_48 : decode cX0_begins 48 = .ok (.if_icmp .eq 6, 3) := dk_159 0 6 (dk_at dksX0_begins_2 0 rfl rfl)
theorem dX0_begins_51 : decode cX0_begins 51 = .ok (.ldc 238, 2) := dk_18 238 (dk_at dksX0_begins_2 3 rfl rfl)
theorem dX0_begins_53 : decode cX0_begins 53 = .ok (.ireturn, 1) := dk_172 (dk_at dksX0_begins_2 5 rfl rfl)
theorem dX0_begins_54 : decode cX0_begins 54 = .ok (.aload_n 0, 1) := dk_42 (dk_at dksX0_begins_2 6 rfl rfl)
theorem dX0_begins_55 : decode cX0_begins 55 = .ok (.getfield 191, 3) := dk_180 0 191 (dk_at dksX0_begins_2 7 rfl rfl)
theorem dX0_begins_58 : decode cX0_begins 58 = .ok (.iload 7, 2) := dk_21 7 (dk_at dksX0_begins_2 10 rfl rfl)
theorem dX0_begins_60 : decode cX0_begins 60 = .ok (.iaload, 1) := dk_46 (dk_at dksX0_begins_2 12 rfl rfl)
theorem dX0_begins_61 : decode cX0_begins 61 = .ok (.istore_n 3, 1) := dk_62 (dk_at dksX0_begins_2 13 rfl rfl)
theorem dX0_begins_62 : decode cX0_begins 62 = .ok (.iload 4, 2) := dk_21 4 (dk_at dksX0_begins_2 14 rfl rfl)
theorem dX0_begins_64 : decode cX0_begins 64 = .ok (.aload_n 0, 1) := dk_42 (dk_at dksX0_begins_2 16 rfl rfl)
theorem dX0_begins_65 : decode cX0_begins 65 = .ok (.getfield 194, 3) := dk_180 0 194 (dk_at dksX0_begins_2 17 rfl rfl)
theorem dX0_begins_68 : decode cX0_begins 68 = .ok (.iload 7, 2) := dk_21 7 (dk_at dksX0_begins_2 20 rfl rfl)
theorem dX0_begins_70 : decode cX0_begins 70 = .ok (.iaload, 1) := dk_46 (dk_at dksX0_begins_2 22 rfl rfl)
theorem dX0_begins_71 : decode cX0_begins 71 = .ok (.invokestatic 239, 3) := dk_184 0 239 (dk_at dksX0_begins_3 0 rfl rfl)
theorem dX0_begins_74 : decode cX0_begins 74 = .ok (.istore 4, 2) := dk_54 4 (dk_at dksX0_begins_3 3 rfl rfl)
theorem dX0_begins_76 : decode cX0_begins 76 = .ok (.iload 5, 2) := dk_21 5 (dk_at dksX0_begins_3 5 rfl rfl)
theorem dX0_begins_78 : decode cX0_begins 78 = .ok (.aload_n 0, 1) := dk_42 (dk_at dksX0_begins_3 7 rfl rfl)
theorem dX0_begins_79 : decode cX0_begins 79 = .ok (.getfield 194, 3) := dk_180 0 194 (dk_at dksX0_begins_3 8 rfl rfl)
theorem dX0_begins_82 : decode cX0_begins 82 = .ok (.iload 7, 2) := dk_21 7 (dk_at dksX0_begins_3 11 rfl rfl)
theorem dX0_begins_84 : decode cX0_begins 84 = .ok (.iaload, 1) := dk_46 (dk_at dksX0_begins_3 13 rfl rfl)
theorem dX0_begins_85 : decode cX0_begins 85 = .ok (.invokestatic 125, 3) := dk_184 0 125 (dk_at dksX0_begins_3 14 rfl rfl)
theorem dX0_begins_88 : decode cX0_begins 88 = .ok (.istore 5, 2) := dk_54 5 (dk_at dksX0_begins_3 17 rfl rfl)
theorem dX0_begins_90 : decode cX0_begins 90 = .ok (.iinc 6 1, 3) := dk_132 6 1 (dk_at dksX0_begins_3 19 rfl rfl)
theorem dX0_begins_93 : decode cX0_begins 93 = .ok (.iinc 7 1, 3) := dk_132 7 1 (dk_at dksX0_begins_4 0 rfl rfl)
theorem dX0_begins_96 : decode cX0_begins 96 = .ok (.goto (-81), 3) := dk_167 255 175 (dk_at dksX0_begins_4 3 rfl rfl)
theorem dX0_begins_99 : decode cX0_begins 99 = .ok (.iload_n 2, 1) := dk_28 (dk_at dksX0_begins_4 6 rfl rfl)
theorem dX0_begins_100 : decode cX0_begins 100 = .ok (.iload 5, 2) := dk_21 5 (dk_at dksX0_begins_4 7 rfl rfl)
theorem dX0_begins_102 : decode cX0_begins 102 = .ok (.invokestatic 125, 3) := dk_184 0 125 (dk_at dksX0_begins_4 9 rfl rfl)
theorem dX0_begins_105 : decode cX0_begins 105 = .ok (.istore 7, 2) := dk_54 7 (dk_at dksX0_begins_4 12 rfl rfl)
theorem dX0_begins_107 : decode cX0_begins 107 = .ok (.iload 6, 2) := dk_21 6 (dk_at dksX0_begins_4 14 rfl rfl)
theorem dX0_begins_109 : decode cX0_begins 109 = .ok (.aload_n 0, 1) := dk_42 (dk_at dksX0_begins_4 16 rfl rfl)
theorem dX0_begins_110 : decode cX0_begins 110 = .ok (.getfield 197, 3) := dk_180 0 197 (dk_at dksX0_begins_4 17 rfl rfl)
theorem dX0_begins_113 : decode cX0_begins 113 = .ok (.if_icmp .gt 15, 3) := dk_163 0 15 (dk_at dksX0_begins_4 20 rfl rfl)
theorem dX0_begins_116 : decode cX0_begins 116 = .ok (.iload 7, 2) := dk_21 7 (dk_at dksX0_begins_5 0 rfl rfl)
theorem dX0_begins_118 : decode cX0_begins 118 = .ok (.iload 4, 2) := dk_21 4 (dk_at dksX0_begins_5 2 rfl rfl)
theorem dX0_begins_120 : decode cX0_begins 120 = .ok (.aload_n 0, 1) := dk_42 (dk_at dksX0_begins_5 4 rfl rfl)
theorem dX0_begins_121 : decode cX0_begins 121 = .ok (.getfield 206, 3) := dk_180 0 206 (dk_at dksX0_begins_5 5 rfl rfl)
theorem dX0_begins_124 : decode cX0_begins 124 = .ok (.iadd, 1) := dk_96 (dk_at dksX0_begins_5 8 rfl rfl)
theorem dX0_begins_125 : decode cX0_begins 125 = .ok (.if_icmp .le 8, 3) := dk_164 0 8 (dk_at dksX0_begins_5 9 rfl rfl)
theorem dX0_begins_128 : decode cX0_begins 128 = .ok (.ldc 238, 2) := dk_18 238 (dk_at dksX0_begins_5 12 rfl rfl)
theorem dX0_begins_130 : decode cX0_begins 130 = .ok (.goto 5, 3) := dk_167 0 5 (dk_at dksX0_begins_5 14 rfl rfl)
theorem dX0_begins_133 : decode cX0_begins 133 = .ok (.iload 7, 2) := dk_21 7 (dk_at dksX0_begins_5 17 rfl rfl)
theorem dX0_begins_135 : decode cX0_begins 135 = .ok (.ireturn, 1) := dk_172 (dk_at dksX0_begins_5 19 rfl rfl)
abbrev cX0_takes : ByteArray := prog_1_method_39_code
def yX0_takes : MethodName := ⟨RX0, "takes", "(I)I"⟩
def dkwX0_takes_0 : List UInt8 := [42, 180, 0, 200, 42, 180, 0, 203, 42, 180, 0, 191, 27, 184, 0, 242, 46, 104, 96, 172]
abbrev dktX0_takes_0 : List UInt8 := dkwX0_takes_0 ++ []
theorem dksX0_takes_0 : cX0_takes.data.toList.drop 0 = dktX0_takes_0 := by decide +kernel
theorem dX0_takes_0 : decode cX0_takes 0 = .ok (.aload_n 0, 1) := dk_42 (dk_at dksX0_takes_0 0 rfl rfl)
theorem dX0_takes_1 : decode cX0_takes 1 = .ok (.getfield 200, 3) := dk_180 0 200 (dk_at dksX0_takes_0 1 rfl rfl)
theorem dX0_takes_4 : decode cX0_takes 4 = .ok (.aload_n 0, 1) := dk_42 (dk_at dksX0_takes_0 4 rfl rfl)
theorem dX0_takes_5 : decode cX0_takes 5 = .ok (.getfield 203, 3) := dk_180 0 203 (dk_at dksX0_takes_0 5 rfl rfl)
theorem dX0_takes_8 : decode cX0_takes 8 = .ok (.aload_n 0, 1) := dk_42 (dk_at dksX0_takes_0 8 rfl rfl)
theorem dX0_takes_9 : decode cX0_takes 9 = .ok (.getfield 191, 3) := dk_180 0 191 (dk_at dksX0_takes_0 9 rfl rfl)
theorem dX0_takes_12 : decode cX0_takes 12 = .ok (.iload_n 1, 1) := dk_27 (dk_at dksX0_takes_0 12 rfl rfl)
theorem dX0_takes_13 : decode cX0_takes 13 = .ok (.invokestatic 242, 3) := dk_184 0 242 (dk_at dksX0_takes_0 13 rfl rfl)
theorem dX0_takes_16 : decode cX0_takes 16 = .ok (.iaload, 1) := dk_46 (dk_at dksX0_takes_0 16 rfl rfl)
theorem dX0_takes_17 : decode cX0_takes 17 = .ok (.imul, 1) := dk_104 (dk_at dksX0_takes_0 17 rfl rfl)
theorem dX0_takes_18 : decode cX0_takes 18 = .ok (.iadd, 1) := dk_96 (dk_at dksX0_takes_0 18 rfl rfl)
theorem dX0_takes_19 : decode cX0_takes 19 = .ok (.ireturn, 1) := dk_172 (dk_at dksX0_takes_0 19 rfl rfl)
abbrev cX0_load : ByteArray := prog_1_method_44_code
def yX0_load : MethodName := ⟨RX0, "load", "(II)I"⟩
def dkwX0_load_2 : List UInt8 := [42, 180, 1, 10, 4, 100, 27, 100, 46, 167, 0, 4, 2, 172]
abbrev dktX0_load_2 : List UInt8 := dkwX0_load_2 ++ []
def dkwX0_load_1 : List UInt8 := [180, 0, 212, 42, 180, 1, 10, 4, 100, 27, 100, 46, 167, 0, 25, 28, 4, 160, 0, 19, 42, 180, 0, 215]
abbrev dktX0_load_1 : List UInt8 := dkwX0_load_1 ++ dktX0_load_2
def dkwX0_load_0 : List UInt8 := [42, 182, 1, 13, 27, 155, 0, 11, 27, 42, 180, 1, 10, 161, 0, 5, 2, 172, 28, 154, 0, 19, 42]
abbrev dktX0_load_0 : List UInt8 := dkwX0_load_0 ++ dktX0_load_1
theorem dksX0_load_0 : cX0_load.data.toList.drop 0 = dktX0_load_0 := by decide +kernel
theorem dksX0_load_1 : cX0_load.data.toList.drop 23 = dktX0_load_1 := dk_seg dksX0_load_0 23 rfl rfl
theorem dksX0_load_2 : cX0_load.data.toList.drop 47 = dktX0_load_2 := dk_seg dksX0_load_1 24 rfl rfl
theorem dX0_load_0 : decode cX0_load 0 = .ok (.aload_n 0, 1) := dk_42 (dk_at dksX0_load_0 0 rfl rfl)
theorem dX0_load_1 : decode cX0_load 1 = .ok (.invokevirtual 269, 3) := dk_182 1 13 (dk_at dksX0_load_0 1 rfl rfl)
theorem dX0_load_4 : decode cX0_load 4 = .ok (.iload_n 1, 1) := dk_27 (dk_at dksX0_load_0 4 rfl rfl)
theorem dX0_load_5 : decode cX0_load 5 = .ok (.ifCond .lt 11, 3) := dk_155 0 11 (dk_at dksX0_load_0 5 rfl rfl)
theorem dX0_load_8 : decode cX0_load 8 = .ok (.iload_n 1, 1) := dk_27 (dk_at dksX0_load_0 8 rfl rfl)
theorem dX0_load_9 : decode cX0_load 9 = .ok (.aload_n 0, 1) := dk_42 (dk_at dksX0_load_0 9 rfl rfl)
theorem dX0_load_10 : decode cX0_load 10 = .ok (.getfield 266, 3) := dk_180 1 10 (dk_at dksX0_load_0 10 rfl rfl)
theorem dX0_load_13 : decode cX0_load 13 = .ok (.if_icmp .lt 5, 3) := dk_161 0 5 (dk_at dksX0_load_0 13 rfl rfl)
theorem dX0_load_16 : decode cX0_load 16 = .ok (.iconst (-1), 1) := dk_2 (dk_at dksX0_load_0 16 rfl rfl)
theorem dX0_load_17 : decode cX0_load 17 = .ok (.ireturn, 1) := dk_172 (dk_at dksX0_load_0 17 rfl rfl)
theorem dX0_load_18 : decode cX0_load 18 = .ok (.iload_n 2, 1) := dk_28 (dk_at dksX0_load_0 18 rfl rfl)
theorem dX0_load_19 : decode cX0_load 19 = .ok (.ifCond .ne 19, 3) := dk_154 0 19 (dk_at dksX0_load_0 19 rfl rfl)
theorem dX0_load_22 : decode cX0_load 22 = .ok (.aload_n 0, 1) := dk_42 (dk_at dksX0_load_0 22 rfl rfl)
theorem dX0_load_23 : decode cX0_load 23 = .ok (.getfield 212, 3) := dk_180 0 212 (dk_at dksX0_load_1 0 rfl rfl)
theorem dX0_load_26 : decode cX0_load 26 = .ok (.aload_n 0, 1) := dk_42 (dk_at dksX0_load_1 3 rfl rfl)
theorem dX0_load_27 : decode cX0_load 27 = .ok (.getfield 266, 3) := dk_180 1 10 (dk_at dksX0_load_1 4 rfl rfl)
theorem dX0_load_30 : decode cX0_load 30 = .ok (.iconst 1, 1) := dk_4 (dk_at dksX0_load_1 7 rfl rfl)
theorem dX0_load_31 : decode cX0_load 31 = .ok (.isub, 1) := dk_100 (dk_at dksX0_load_1 8 rfl rfl)
theorem dX0_load_32 : decode cX0_load 32 = .ok (.iload_n 1, 1) := dk_27 (dk_at dksX0_load_1 9 rfl rfl)
theorem dX0_load_33 : decode cX0_load 33 = .ok (.isub, 1) := dk_100 (dk_at dksX0_load_1 10 rfl rfl)
theorem dX0_load_34 : decode cX0_load 34 = .ok (.iaload, 1) := dk_46 (dk_at dksX0_load_1 11 rfl rfl)
theorem dX0_load_35 : decode cX0_load 35 = .ok (.goto 25, 3) := dk_167 0 25 (dk_at dksX0_load_1 12 rfl rfl)
theorem dX0_load_38 : decode cX0_load 38 = .ok (.iload_n 2, 1) := dk_28 (dk_at dksX0_load_1 15 rfl rfl)
theorem dX0_load_39 : decode cX0_load 39 = .ok (.iconst 1, 1) := dk_4 (dk_at dksX0_load_1 16 rfl rfl)
theorem dX0_load_40 : decode cX0_load 40 = .ok (.if_icmp .ne 19, 3) := dk_160 0 19 (dk_at dksX0_load_1 17 rfl rfl)
theorem dX0_load_43 : decode cX0_load 43 = .ok (.aload_n 0, 1) := dk_42 (dk_at dksX0_load_1 20 rfl rfl)
theorem dX0_load_44 : decode cX0_load 44 = .ok (.getfield 215, 3) := dk_180 0 215 (dk_at dksX0_load_1 21 rfl rfl)
theorem dX0_load_47 : decode cX0_load 47 = .ok (.aload_n 0, 1) := dk_42 (dk_at dksX0_load_2 0 rfl rfl)
theorem dX0_load_48 : decode cX0_load 48 = .ok (.getfield 266, 3) := dk_180 1 10 (dk_at dksX0_load_2 1 rfl rfl)
theorem dX0_load_51 : decode cX0_load 51 = .ok (.iconst 1, 1) := dk_4 (dk_at dksX0_load_2 4 rfl rfl)
theorem dX0_load_52 : decode cX0_load 52 = .ok (.isub, 1) := dk_100 (dk_at dksX0_load_2 5 rfl rfl)
theorem dX0_load_53 : decode cX0_load 53 = .ok (.iload_n 1, 1) := dk_27 (dk_at dksX0_load_2 6 rfl rfl)
theorem dX0_load_54 : decode cX0_load 54 = .ok (.isub, 1) := dk_100 (dk_at dksX0_load_2 7 rfl rfl)
theorem dX0_load_55 : decode cX0_load 55 = .ok (.iaload, 1) := dk_46 (dk_at dksX0_load_2 8 rfl rfl)
theorem dX0_load_56 : decode cX0_load 56 = .ok (.goto 4, 3) := dk_167 0 4 (dk_at dksX0_load_2 9 rfl rfl)
theorem dX0_load_59 : decode cX0_load 59 = .ok (.iconst (-1), 1) := dk_2 (dk_at dksX0_load_2 12 rfl rfl)
theorem dX0_load_60 : decode cX0_load 60 = .ok (.ireturn, 1) := dk_172 (dk_at dksX0_load_2 13 rfl rfl)
abbrev cX0_about : ByteArray := prog_1_method_45_code
def yX0_about : MethodName := ⟨RX0, "about", "(I)I"⟩
def dkwX0_about_3 : List UInt8 := [172]
abbrev dktX0_about_3 : List UInt8 := dkwX0_about_3 ++ []
def dkwX0_about_2 : List UInt8 := [42, 180, 0, 61, 180, 0, 69, 172, 42, 180, 0, 95, 172, 42, 180, 0, 235, 172, 42, 180, 0, 30, 172, 2]
abbrev dktX0_about_2 : List UInt8 := dkwX0_about_2 ++ dktX0_about_3
def dkwX0_about_1 : List UInt8 := [170, 0, 0, 0, 0, 0, 54, 0, 0, 0, 0, 0, 0, 0, 3, 0, 0, 0, 31, 0, 0, 0, 39, 0, 0, 0, 44, 0, 0, 0, 49]
abbrev dktX0_about_1 : List UInt8 := dkwX0_about_1 ++ dktX0_about_2
def dkwX0_about_0 : List UInt8 := [27]
abbrev dktX0_about_0 : List UInt8 := dkwX0_about_0 ++ dktX0_about_1
theorem dksX0_about_0 : cX0_about.data.toList.drop 0 = dktX0_about_0 := by decide +kernel
theorem dksX0_about_1 : cX0_about.data.toList.drop 1 = dktX0_about_1 := dk_seg dksX0_about_0 1 rfl rfl
theorem dksX0_about_2 : cX0_about.data.toList.drop 32 = dktX0_about_2 := dk_seg dksX0_about_1 31 rfl rfl
theorem dksX0_about_3 : cX0_about.data.toList.drop 56 = dktX0_about_3 := dk_seg dksX0_about_2 24 rfl rfl
theorem dX0_about_0 : decode cX0_about 0 = .ok (.iload_n 1, 1) := dk_27 (dk_at dksX0_about_0 0 rfl rfl)
theorem dX0_about_1 : decode cX0_about 1 = .ok (.tableswitch 54 0 3 #[31, 39, 44, 49], 31) := by decide +kernel
theorem dX0_about_32 : decode cX0_about 32 = .ok (.aload_n 0, 1) := dk_42 (dk_at dksX0_about_2 0 rfl rfl)
theorem dX0_about_33 : decode cX0_about 33 = .ok (.getfield 61, 3) := dk_180 0 61 (dk_at dksX0_about_2 1 rfl rfl)
theorem dX0_about_36 : decode cX0_about 36 = .ok (.getfield 69, 3) := dk_180 0 69 (dk_at dksX0_about_2 4 rfl rfl)
theorem dX0_about_39 : decode cX0_about 39 = .ok (.ireturn, 1) := dk_172 (dk_at dksX0_about_2 7 rfl rfl)
theorem dX0_about_40 : decode cX0_about 40 = .ok (.aload_n 0, 1) := dk_42 (dk_at dksX0_about_2 8 rfl rfl)
theorem dX0_about_41 : decode cX0_about 41 = .ok (.getfield 95, 3) := dk_180 0 95 (dk_at dksX0_about_2 9 rfl rfl)
theorem dX0_about_44 : decode cX0_about 44 = .ok (.ireturn, 1) := dk_172 (dk_at dksX0_about_2 12 rfl rfl)
theorem dX0_about_45 : decode cX0_about 45 = .ok (.aload_n 0, 1) := dk_42 (dk_at dksX0_about_2 13 rfl rfl)
theorem dX0_about_46 : decode cX0_about 46 = .ok (.getfield 235, 3) := dk_180 0 235 (dk_at dksX0_about_2 14 rfl rfl)
theorem dX0_about_49 : decode cX0_about 49 = .ok (.ireturn, 1) := dk_172 (dk_at dksX0_about_2 17 rfl rfl)
theorem dX0_about_50 : decode cX0_about 50 = .ok (.aload_n 0, 1) := dk_42 (dk_at dksX0_about_2 18 rfl rfl)
theorem dX0_about_51 : decode cX0_about 51 = .ok (.getfield 30, 3) := dk_180 0 30 (dk_at dksX0_about_2 19 rfl rfl)
theorem dX0_about_54 : decode cX0_about 54 = .ok (.ireturn, 1) := dk_172 (dk_at dksX0_about_2 22 rfl rfl)
theorem dX0_about_55 : decode cX0_about 55 = .ok (.iconst (-1), 1) := dk_2 (dk_at dksX0_about_2 23 rfl rfl)
theorem dX0_about_56 : decode cX0_about 56 = .ok (.ireturn, 1) := dk_172 (dk_at dksX0_about_3 0 rfl rfl)
theorem q54 : (Jvm.Cond.initialized "PlyHouse") ∈ lw_all := lw_g (lw_at lw_m1 1 rfl) rfl
theorem q79 : (Jvm.Cond.instanceMethod ({ cls := "PlyHouse", name := "net", desc := "(II)Z" } : Jvm.MethodName)) ∈ lw_all := lw_g (lw_at lw_m1 26 rfl) rfl
theorem q80 : (Jvm.Cond.selects "PlyHouse" ({ cls := "PlyHouse", name := "net", desc := "(II)Z" } : Jvm.MethodName) ({ cls := "PlyHouse", name := "net", desc := "(II)Z" } : Jvm.MethodName)) ∈ lw_all := lw_g (lw_at lw_m1 27 rfl) rfl
theorem q81 : (Jvm.Cond.code ({ cls := "PlyHouse", name := "net", desc := "(II)Z" } : Jvm.MethodName) prog_1_method_1_code (3 : Nat) (Option.some Jvm.ClassFile.FieldType.boolean)) ∈ lw_all := lw_g (lw_at lw_m1 28 rfl) rfl
theorem q82 : (Jvm.Cond.constant "PlyHouse" (3 : Nat) (16777216 : Int32)) ∈ lw_all := lw_g (lw_at lw_m1 29 rfl) rfl
theorem q84 : (Jvm.Cond.instanceMethod ({ cls := "PlyHouse", name := "centre", desc := "(I)I" } : Jvm.MethodName)) ∈ lw_all := lw_g (lw_at lw_m1 31 rfl) rfl
theorem q85 : (Jvm.Cond.selects "PlyHouse" ({ cls := "PlyHouse", name := "centre", desc := "(I)I" } : Jvm.MethodName) ({ cls := "PlyHouse", name := "centre", desc := "(I)I" } : Jvm.MethodName)) ∈ lw_all := lw_g (lw_at lw_m1 32 rfl) rfl
theorem q86 : (Jvm.Cond.code ({ cls := "PlyHouse", name := "centre", desc := "(I)I" } : Jvm.MethodName) prog_1_method_5_code (2 : Nat) (Option.some Jvm.ClassFile.FieldType.int)) ∈ lw_all := lw_g (lw_at lw_m1 33 rfl) rfl
theorem q87 : (Jvm.Cond.methodLink "PlyHouse" (26 : Nat) ({ cls := "PlyHouse", name := "seekCentre", desc := "()V" } : Jvm.MethodName)) ∈ lw_all := lw_g (lw_at lw_m1 34 rfl) rfl
theorem q88 : (Jvm.Cond.privateMethod ({ cls := "PlyHouse", name := "seekCentre", desc := "()V" } : Jvm.MethodName)) ∈ lw_tbl := lw_at lw_m1 35 rfl
theorem q89 : (Jvm.Cond.instanceMethod ({ cls := "PlyHouse", name := "seekCentre", desc := "()V" } : Jvm.MethodName)) ∈ lw_all := lw_g (lw_at lw_m1 36 rfl) rfl
theorem q90 : (Jvm.Cond.instantiable "PlyHouse" (35 : Nat)) ∈ lw_all := lw_g (lw_at lw_m1 37 rfl) rfl
theorem q91 : (Jvm.Cond.code ({ cls := "PlyHouse", name := "seekCentre", desc := "()V" } : Jvm.MethodName) prog_1_method_4_code (3 : Nat) (Option.none : Option Jvm.ClassFile.FieldType)) ∈ lw_all := lw_g (lw_at lw_m1 38 rfl) rfl
theorem q92 : (Jvm.Cond.methodLink "PlyHouse" (16 : Nat) ({ cls := "PlyHouse", name := "fits", desc := "(III)Z" } : Jvm.MethodName)) ∈ lw_all := lw_g (lw_at lw_m1 39 rfl) rfl
theorem q93 : (Jvm.Cond.privateMethod ({ cls := "PlyHouse", name := "fits", desc := "(III)Z" } : Jvm.MethodName)) ∈ lw_tbl := lw_at lw_m1 40 rfl
theorem q94 : (Jvm.Cond.instanceMethod ({ cls := "PlyHouse", name := "fits", desc := "(III)Z" } : Jvm.MethodName)) ∈ lw_all := lw_g (lw_at lw_m1 41 rfl) rfl
theorem q95 : (Jvm.Cond.code ({ cls := "PlyHouse", name := "fits", desc := "(III)Z" } : Jvm.MethodName) prog_1_method_3_code (6 : Nat) (Option.some Jvm.ClassFile.FieldType.boolean)) ∈ lw_all := lw_g (lw_at lw_m1 42 rfl) rfl
theorem q96 : (Jvm.Cond.methodLink "PlyHouse" (8 : Nat) ({ cls := "PlyHouse", name := "isIn", desc := "(II)Z" } : Jvm.MethodName)) ∈ lw_all := lw_g (lw_at lw_m1 43 rfl) rfl
theorem q97 : (Jvm.Cond.privateMethod ({ cls := "PlyHouse", name := "isIn", desc := "(II)Z" } : Jvm.MethodName)) ∈ lw_tbl := lw_at lw_m1 44 rfl
theorem q98 : (Jvm.Cond.instanceMethod ({ cls := "PlyHouse", name := "isIn", desc := "(II)Z" } : Jvm.MethodName)) ∈ lw_all := lw_g (lw_at lw_m1 45 rfl) rfl
theorem q99 : (Jvm.Cond.code ({ cls := "PlyHouse", name := "isIn", desc := "(II)Z" } : Jvm.MethodName) prog_1_method_2_code (3 : Nat) (Option.some Jvm.ClassFile.FieldType.boolean)) ∈ lw_all := lw_g (lw_at lw_m1 46 rfl) rfl
theorem q101 : (Jvm.Cond.instanceMethod ({ cls := "PlyHouse", name := "full", desc := "(II)I" } : Jvm.MethodName)) ∈ lw_all := lw_g (lw_at lw_m1 48 rfl) rfl
theorem q102 : (Jvm.Cond.selects "PlyHouse" ({ cls := "PlyHouse", name := "full", desc := "(II)I" } : Jvm.MethodName) ({ cls := "PlyHouse", name := "full", desc := "(II)I" } : Jvm.MethodName)) ∈ lw_all := lw_g (lw_at lw_m1 49 rfl) rfl
theorem q103 : (Jvm.Cond.code ({ cls := "PlyHouse", name := "full", desc := "(II)I" } : Jvm.MethodName) prog_1_method_6_code (4 : Nat) (Option.some Jvm.ClassFile.FieldType.int)) ∈ lw_all := lw_g (lw_at lw_m1 50 rfl) rfl
theorem q105 : (Jvm.Cond.instanceMethod ({ cls := "PlyHouse", name := "feed", desc := "(IIIII)I" } : Jvm.MethodName)) ∈ lw_all := lw_g (lw_at lw_m1 52 rfl) rfl
theorem q106 : (Jvm.Cond.selects "PlyHouse" ({ cls := "PlyHouse", name := "feed", desc := "(IIIII)I" } : Jvm.MethodName) ({ cls := "PlyHouse", name := "feed", desc := "(IIIII)I" } : Jvm.MethodName)) ∈ lw_all := lw_g (lw_at lw_m1 53 rfl) rfl
theorem q107 : (Jvm.Cond.code ({ cls := "PlyHouse", name := "feed", desc := "(IIIII)I" } : Jvm.MethodName) prog_1_method_7_code (6 : Nat) (Option.some Jvm.ClassFile.FieldType.int)) ∈ lw_all := lw_g (lw_at lw_m1 54 rfl) rfl
theorem q108 : (Jvm.Cond.methodLink "PlyHouse" (33 : Nat) ({ cls := "PlyHouse", name := "bytes", desc := "(I)V" } : Jvm.MethodName)) ∈ lw_all := lw_g (lw_at lw_m1 55 rfl) rfl
theorem q109 : (Jvm.Cond.privateMethod ({ cls := "PlyHouse", name := "bytes", desc := "(I)V" } : Jvm.MethodName)) ∈ lw_tbl := lw_at lw_m1 56 rfl
theorem q110 : (Jvm.Cond.instanceMethod ({ cls := "PlyHouse", name := "bytes", desc := "(I)V" } : Jvm.MethodName)) ∈ lw_all := lw_g (lw_at lw_m1 57 rfl) rfl
theorem q111 : (Jvm.Cond.code ({ cls := "PlyHouse", name := "bytes", desc := "(I)V" } : Jvm.MethodName) prog_1_method_8_code (3 : Nat) (Option.none : Option Jvm.ClassFile.FieldType)) ∈ lw_all := lw_g (lw_at lw_m1 58 rfl) rfl
theorem q113 : (Jvm.Cond.instanceMethod ({ cls := "PlyHouse", name := "end", desc := "(I)I" } : Jvm.MethodName)) ∈ lw_all := lw_g (lw_at lw_m1 60 rfl) rfl
theorem q114 : (Jvm.Cond.selects "PlyHouse" ({ cls := "PlyHouse", name := "end", desc := "(I)I" } : Jvm.MethodName) ({ cls := "PlyHouse", name := "end", desc := "(I)I" } : Jvm.MethodName)) ∈ lw_all := lw_g (lw_at lw_m1 61 rfl) rfl
theorem q115 : (Jvm.Cond.code ({ cls := "PlyHouse", name := "end", desc := "(I)I" } : Jvm.MethodName) prog_1_method_9_code (2 : Nat) (Option.some Jvm.ClassFile.FieldType.int)) ∈ lw_all := lw_g (lw_at lw_m1 62 rfl) rfl
theorem q117 : (Jvm.Cond.instanceMethod ({ cls := "PlyHouse", name := "grades", desc := "()I" } : Jvm.MethodName)) ∈ lw_all := lw_g (lw_at lw_m1 64 rfl) rfl
theorem q118 : (Jvm.Cond.selects "PlyHouse" ({ cls := "PlyHouse", name := "grades", desc := "()I" } : Jvm.MethodName) ({ cls := "PlyHouse", name := "grades", desc := "()I" } : Jvm.MethodName)) ∈ lw_all := lw_g (lw_at lw_m1 65 rfl) rfl
theorem q119 : (Jvm.Cond.codeWith ({ cls := "PlyHouse", name := "grades", desc := "()I" } : Jvm.MethodName) prog_1_method_11_code (3 : Nat) (Option.some Jvm.ClassFile.FieldType.int) [((28 : Nat), (48 : Nat), (49 : Nat), (74 : Nat))]) ∈ lw_all := lw_g (lw_at lw_m1 66 rfl) rfl
theorem q120 : (Jvm.Cond.classLink "PlyHouse" (74 : Nat) "PlyHouse$Wrong") ∈ lw_all := lw_g (lw_at lw_m1 67 rfl) rfl
theorem q121 : (Jvm.Cond.classLink "PlyHouse" (47 : Nat) "PlyHouse$Reader") ∈ lw_all := lw_g (lw_at lw_m1 68 rfl) rfl
theorem q123 : (Jvm.Cond.methodLink "PlyHouse" (49 : Nat) ({ cls := "PlyHouse$Reader", name := "<init>", desc := "([BI)V" } : Jvm.MethodName)) ∈ lw_all := lw_g (lw_at lw_m1 70 rfl) rfl
theorem q154 : (Jvm.Cond.methodLink "PlyHouse" (53 : Nat) ({ cls := "PlyHouse", name := "faulty", desc := "(II)I" } : Jvm.MethodName)) ∈ lw_all := lw_g (lw_at lw_m1 101 rfl) rfl
theorem q155 : (Jvm.Cond.privateMethod ({ cls := "PlyHouse", name := "faulty", desc := "(II)I" } : Jvm.MethodName)) ∈ lw_tbl := lw_at lw_m1 102 rfl
theorem q156 : (Jvm.Cond.instanceMethod ({ cls := "PlyHouse", name := "faulty", desc := "(II)I" } : Jvm.MethodName)) ∈ lw_all := lw_g (lw_at lw_m1 103 rfl) rfl
theorem q157 : (Jvm.Cond.code ({ cls := "PlyHouse", name := "faulty", desc := "(II)I" } : Jvm.MethodName) prog_1_method_10_code (3 : Nat) (Option.some Jvm.ClassFile.FieldType.int)) ∈ lw_all := lw_g (lw_at lw_m1 104 rfl) rfl
theorem q158 : (Jvm.Cond.methodLink "PlyHouse" (57 : Nat) ({ cls := "PlyHouse$Reader", name := "read", desc := "()LPlyHouse$Grades;" } : Jvm.MethodName)) ∈ lw_all := lw_g (lw_at lw_m1 105 rfl) rfl
theorem q171 : (Jvm.Cond.fieldLinkNest "PlyHouse" (140 : Nat) "PlyHouse$Grades" "widths" "[I" "PlyHouse") ∈ lw_tbl := lw_at lw_m1 118 rfl
theorem q175 : (Jvm.Cond.fieldLinkNest "PlyHouse" (166 : Nat) "PlyHouse$Grades" "worths" "[I" "PlyHouse") ∈ lw_tbl := lw_at lw_m1 122 rfl
theorem q177 : (Jvm.Cond.fieldLinkNest "PlyHouse" (130 : Nat) "PlyHouse$Grades" "whens" "[LPlyHouse$Node;" "PlyHouse") ∈ lw_tbl := lw_at lw_m1 124 rfl
theorem q179 : (Jvm.Cond.fieldLinkNest "PlyHouse" (69 : Nat) "PlyHouse$Grades" "many" "I" "PlyHouse") ∈ lw_tbl := lw_at lw_m1 126 rfl
theorem q247 : (Jvm.Cond.fieldLinkNest "PlyHouse" (76 : Nat) "PlyHouse$Wrong" "kind" "I" "PlyHouse") ∈ lw_tbl := lw_at lw_m1 194 rfl
theorem q249 : (Jvm.Cond.fieldLinkNest "PlyHouse" (79 : Nat) "PlyHouse$Wrong" "place" "I" "PlyHouse") ∈ lw_tbl := lw_at lw_m1 196 rfl
theorem q530 : (Jvm.Cond.instanceMethod ({ cls := "PlyHouse", name := "fault", desc := "(I)I" } : Jvm.MethodName)) ∈ lw_all := lw_g (lw_at lw_m2 237 rfl) rfl
theorem q531 : (Jvm.Cond.selects "PlyHouse" ({ cls := "PlyHouse", name := "fault", desc := "(I)I" } : Jvm.MethodName) ({ cls := "PlyHouse", name := "fault", desc := "(I)I" } : Jvm.MethodName)) ∈ lw_all := lw_g (lw_at lw_m2 238 rfl) rfl
theorem q532 : (Jvm.Cond.code ({ cls := "PlyHouse", name := "fault", desc := "(I)I" } : Jvm.MethodName) prog_1_method_12_code (2 : Nat) (Option.some Jvm.ClassFile.FieldType.int)) ∈ lw_all := lw_g (lw_at lw_m2 239 rfl) rfl
theorem q534 : (Jvm.Cond.instanceMethod ({ cls := "PlyHouse", name := "leaf", desc := "()I" } : Jvm.MethodName)) ∈ lw_all := lw_g (lw_at lw_m3 1 rfl) rfl
theorem q535 : (Jvm.Cond.selects "PlyHouse" ({ cls := "PlyHouse", name := "leaf", desc := "()I" } : Jvm.MethodName) ({ cls := "PlyHouse", name := "leaf", desc := "()I" } : Jvm.MethodName)) ∈ lw_all := lw_g (lw_at lw_m3 2 rfl) rfl
theorem q536 : (Jvm.Cond.code ({ cls := "PlyHouse", name := "leaf", desc := "()I" } : Jvm.MethodName) prog_1_method_14_code (3 : Nat) (Option.some Jvm.ClassFile.FieldType.int)) ∈ lw_all := lw_g (lw_at lw_m3 3 rfl) rfl
theorem q537 : (Jvm.Cond.methodLink "PlyHouse" (82 : Nat) ({ cls := "PlyHouse", name := "isMark", desc := "(I)Z" } : Jvm.MethodName)) ∈ lw_all := lw_g (lw_at lw_m3 4 rfl) rfl
theorem q538 : (Jvm.Cond.static ({ cls := "PlyHouse", name := "isMark", desc := "(I)Z" } : Jvm.MethodName)) ∈ lw_all := lw_g (lw_at lw_m3 5 rfl) rfl
theorem q539 : (Jvm.Cond.code ({ cls := "PlyHouse", name := "isMark", desc := "(I)Z" } : Jvm.MethodName) prog_1_method_13_code (1 : Nat) (Option.some Jvm.ClassFile.FieldType.boolean)) ∈ lw_all := lw_g (lw_at lw_m3 6 rfl) rfl
theorem q540 : (Jvm.Cond.methodLink "PlyHouse" (89 : Nat) ({ cls := "java/lang/System", name := "arraycopy", desc := "(Ljava/lang/Object;ILjava/lang/Object;II)V" } : Jvm.MethodName)) ∈ lw_all := lw_g (lw_at lw_m3 7 rfl) rfl
theorem q544 : (Jvm.Cond.instanceMethod ({ cls := "PlyHouse", name := "patch", desc := "(II)Z" } : Jvm.MethodName)) ∈ lw_all := lw_g (lw_at lw_m3 11 rfl) rfl
theorem q545 : (Jvm.Cond.selects "PlyHouse" ({ cls := "PlyHouse", name := "patch", desc := "(II)Z" } : Jvm.MethodName) ({ cls := "PlyHouse", name := "patch", desc := "(II)Z" } : Jvm.MethodName)) ∈ lw_all := lw_g (lw_at lw_m3 12 rfl) rfl
theorem q546 : (Jvm.Cond.code ({ cls := "PlyHouse", name := "patch", desc := "(II)Z" } : Jvm.MethodName) prog_1_method_15_code (3 : Nat) (Option.some Jvm.ClassFile.FieldType.boolean)) ∈ lw_all := lw_g (lw_at lw_m3 13 rfl) rfl
theorem q548 : (Jvm.Cond.instanceMethod ({ cls := "PlyHouse", name := "sheet", desc := "(III)I" } : Jvm.MethodName)) ∈ lw_all := lw_g (lw_at lw_m3 15 rfl) rfl
theorem q549 : (Jvm.Cond.selects "PlyHouse" ({ cls := "PlyHouse", name := "sheet", desc := "(III)I" } : Jvm.MethodName) ({ cls := "PlyHouse", name := "sheet", desc := "(III)I" } : Jvm.MethodName)) ∈ lw_all := lw_g (lw_at lw_m3 16 rfl) rfl
theorem q550 : (Jvm.Cond.code ({ cls := "PlyHouse", name := "sheet", desc := "(III)I" } : Jvm.MethodName) prog_1_method_19_code (4 : Nat) (Option.some Jvm.ClassFile.FieldType.int)) ∈ lw_all := lw_g (lw_at lw_m3 17 rfl) rfl
theorem q551 : (Jvm.Cond.methodLink "PlyHouse" (143 : Nat) ({ cls := "PlyHouse", name := "isThere", desc := "(II)Z" } : Jvm.MethodName)) ∈ lw_all := lw_g (lw_at lw_m3 18 rfl) rfl
theorem q552 : (Jvm.Cond.privateMethod ({ cls := "PlyHouse", name := "isThere", desc := "(II)Z" } : Jvm.MethodName)) ∈ lw_tbl := lw_at lw_m3 19 rfl
theorem q553 : (Jvm.Cond.instanceMethod ({ cls := "PlyHouse", name := "isThere", desc := "(II)Z" } : Jvm.MethodName)) ∈ lw_all := lw_g (lw_at lw_m3 20 rfl) rfl
theorem q554 : (Jvm.Cond.code ({ cls := "PlyHouse", name := "isThere", desc := "(II)Z" } : Jvm.MethodName) prog_1_method_18_code (3 : Nat) (Option.some Jvm.ClassFile.FieldType.boolean)) ∈ lw_all := lw_g (lw_at lw_m3 21 rfl) rfl
theorem q555 : (Jvm.Cond.methodLink "PlyHouse" (146 : Nat) ({ cls := "PlyHouse", name := "look", desc := "(II)V" } : Jvm.MethodName)) ∈ lw_all := lw_g (lw_at lw_m3 22 rfl) rfl
theorem q556 : (Jvm.Cond.privateMethod ({ cls := "PlyHouse", name := "look", desc := "(II)V" } : Jvm.MethodName)) ∈ lw_tbl := lw_at lw_m3 23 rfl
theorem q557 : (Jvm.Cond.instanceMethod ({ cls := "PlyHouse", name := "look", desc := "(II)V" } : Jvm.MethodName)) ∈ lw_all := lw_g (lw_at lw_m3 24 rfl) rfl
theorem q558 : (Jvm.Cond.code ({ cls := "PlyHouse", name := "look", desc := "(II)V" } : Jvm.MethodName) prog_1_method_16_code (6 : Nat) (Option.none : Option Jvm.ClassFile.FieldType)) ∈ lw_all := lw_g (lw_at lw_m3 25 rfl) rfl
theorem q559 : (Jvm.Cond.methodLink "PlyHouse" (125 : Nat) ({ cls := "java/lang/Math", name := "max", desc := "(II)I" } : Jvm.MethodName)) ∈ lw_all := lw_g (lw_at lw_m3 26 rfl) rfl
theorem q560 : (Jvm.Cond.methodLink "PlyHouse" (150 : Nat) ({ cls := "PlyHouse", name := "isSheet", desc := "(II)Z" } : Jvm.MethodName)) ∈ lw_all := lw_g (lw_at lw_m3 27 rfl) rfl
theorem q561 : (Jvm.Cond.privateMethod ({ cls := "PlyHouse", name := "isSheet", desc := "(II)Z" } : Jvm.MethodName)) ∈ lw_tbl := lw_at lw_m3 28 rfl
theorem q562 : (Jvm.Cond.instanceMethod ({ cls := "PlyHouse", name := "isSheet", desc := "(II)Z" } : Jvm.MethodName)) ∈ lw_all := lw_g (lw_at lw_m3 29 rfl) rfl
theorem q563 : (Jvm.Cond.codeWith ({ cls := "PlyHouse", name := "isSheet", desc := "(II)Z" } : Jvm.MethodName) prog_1_method_17_code (5 : Nat) (Option.some Jvm.ClassFile.FieldType.boolean) [((61 : Nat), (78 : Nat), (106 : Nat), (0 : Nat)), ((106 : Nat), (108 : Nat), (106 : Nat), (0 : Nat))]) ∈ lw_all := lw_g (lw_at lw_m3 30 rfl) rfl
theorem q564 : (Jvm.Cond.methodLink "PlyHouse" (134 : Nat) ({ cls := "PlyHouse$Node", name := "holds", desc := "(LPlyHouse$Part;)Z" } : Jvm.MethodName)) ∈ lw_all := lw_g (lw_at lw_m3 31 rfl) rfl
theorem q597 : (Jvm.Cond.instanceMethod ({ cls := "PlyHouse", name := "worth", desc := "()I" } : Jvm.MethodName)) ∈ lw_all := lw_g (lw_at lw_m3 64 rfl) rfl
theorem q598 : (Jvm.Cond.selects "PlyHouse" ({ cls := "PlyHouse", name := "worth", desc := "()I" } : Jvm.MethodName) ({ cls := "PlyHouse", name := "worth", desc := "()I" } : Jvm.MethodName)) ∈ lw_all := lw_g (lw_at lw_m3 65 rfl) rfl
theorem q599 : (Jvm.Cond.code ({ cls := "PlyHouse", name := "worth", desc := "()I" } : Jvm.MethodName) prog_1_method_22_code (1 : Nat) (Option.some Jvm.ClassFile.FieldType.int)) ∈ lw_all := lw_g (lw_at lw_m3 66 rfl) rfl
theorem q600 : (Jvm.Cond.methodLink "PlyHouse" (169 : Nat) ({ cls := "PlyHouse", name := "clip", desc := "()V" } : Jvm.MethodName)) ∈ lw_all := lw_g (lw_at lw_m3 67 rfl) rfl
theorem q601 : (Jvm.Cond.privateMethod ({ cls := "PlyHouse", name := "clip", desc := "()V" } : Jvm.MethodName)) ∈ lw_tbl := lw_at lw_m3 68 rfl
theorem q602 : (Jvm.Cond.instanceMethod ({ cls := "PlyHouse", name := "clip", desc := "()V" } : Jvm.MethodName)) ∈ lw_all := lw_g (lw_at lw_m3 69 rfl) rfl
theorem q603 : (Jvm.Cond.code ({ cls := "PlyHouse", name := "clip", desc := "()V" } : Jvm.MethodName) prog_1_method_20_code (4 : Nat) (Option.none : Option Jvm.ClassFile.FieldType)) ∈ lw_all := lw_g (lw_at lw_m3 70 rfl) rfl
theorem q604 : (Jvm.Cond.methodLink "PlyHouse" (162 : Nat) ({ cls := "PlyHouse", name := "take", desc := "(III)V" } : Jvm.MethodName)) ∈ lw_all := lw_g (lw_at lw_m3 71 rfl) rfl
theorem q605 : (Jvm.Cond.privateMethod ({ cls := "PlyHouse", name := "take", desc := "(III)V" } : Jvm.MethodName)) ∈ lw_tbl := lw_at lw_m3 72 rfl
theorem q606 : (Jvm.Cond.instanceMethod ({ cls := "PlyHouse", name := "take", desc := "(III)V" } : Jvm.MethodName)) ∈ lw_all := lw_g (lw_at lw_m3 73 rfl) rfl
theorem q607 : (Jvm.Cond.code ({ cls := "PlyHouse", name := "take", desc := "(III)V" } : Jvm.MethodName) prog_1_method_21_code (8 : Nat) (Option.none : Option Jvm.ClassFile.FieldType)) ∈ lw_all := lw_g (lw_at lw_m3 74 rfl) rfl
theorem q609 : (Jvm.Cond.instanceMethod ({ cls := "PlyHouse", name := "sheets", desc := "()I" } : Jvm.MethodName)) ∈ lw_all := lw_g (lw_at lw_m3 76 rfl) rfl
theorem q610 : (Jvm.Cond.selects "PlyHouse" ({ cls := "PlyHouse", name := "sheets", desc := "()I" } : Jvm.MethodName) ({ cls := "PlyHouse", name := "sheets", desc := "()I" } : Jvm.MethodName)) ∈ lw_all := lw_g (lw_at lw_m3 77 rfl) rfl
theorem q611 : (Jvm.Cond.code ({ cls := "PlyHouse", name := "sheets", desc := "()I" } : Jvm.MethodName) prog_1_method_23_code (1 : Nat) (Option.some Jvm.ClassFile.FieldType.int)) ∈ lw_all := lw_g (lw_at lw_m3 78 rfl) rfl
theorem q613 : (Jvm.Cond.instanceMethod ({ cls := "PlyHouse", name := "clipped", desc := "(II)I" } : Jvm.MethodName)) ∈ lw_all := lw_g (lw_at lw_m3 80 rfl) rfl
theorem q614 : (Jvm.Cond.selects "PlyHouse" ({ cls := "PlyHouse", name := "clipped", desc := "(II)I" } : Jvm.MethodName) ({ cls := "PlyHouse", name := "clipped", desc := "(II)I" } : Jvm.MethodName)) ∈ lw_all := lw_g (lw_at lw_m3 81 rfl) rfl
theorem q615 : (Jvm.Cond.code ({ cls := "PlyHouse", name := "clipped", desc := "(II)I" } : Jvm.MethodName) prog_1_method_24_code (5 : Nat) (Option.some Jvm.ClassFile.FieldType.int)) ∈ lw_all := lw_g (lw_at lw_m3 82 rfl) rfl
theorem q618 : (Jvm.Cond.instanceMethod ({ cls := "PlyHouse", name := "<init>", desc := "()V" } : Jvm.MethodName)) ∈ lw_all := lw_g (lw_at lw_m3 85 rfl) rfl
theorem q619 : (Jvm.Cond.code ({ cls := "PlyHouse", name := "<init>", desc := "()V" } : Jvm.MethodName) prog_1_method_25_code (2 : Nat) (Option.none : Option Jvm.ClassFile.FieldType)) ∈ lw_all := lw_g (lw_at lw_m3 86 rfl) rfl
theorem q620 : (Jvm.Cond.methodLink "PlyHouse" (172 : Nat) ({ cls := "java/lang/Object", name := "<init>", desc := "()V" } : Jvm.MethodName)) ∈ lw_all := lw_g (lw_at lw_m3 87 rfl) rfl
theorem q621 : (Jvm.Cond.classLink "PlyHouse" (70 : Nat) "PlyHouse$Grades") ∈ lw_all := lw_g (lw_at lw_m3 88 rfl) rfl
theorem q622 : (Jvm.Cond.methodLinkNest "PlyHouse" (176 : Nat) ({ cls := "PlyHouse$Grades", name := "<init>", desc := "()V" } : Jvm.MethodName) "PlyHouse") ∈ lw_tbl := lw_at lw_m3 89 rfl
theorem q623 : (Jvm.Cond.classLink "PlyHouse" (109 : Nat) "PlyHouse$Part") ∈ lw_all := lw_g (lw_at lw_m3 90 rfl) rfl
theorem q625 : (Jvm.Cond.methodLinkNest "PlyHouse" (177 : Nat) ({ cls := "PlyHouse$Part", name := "<init>", desc := "()V" } : Jvm.MethodName) "PlyHouse") ∈ lw_tbl := lw_at lw_m3 92 rfl
theorem q630 : (Jvm.Cond.fieldLinkNest "PlyHouse" (108 : Nat) "PlyHouse$Part" "knots" "I" "PlyHouse") ∈ lw_tbl := lw_at lw_m3 97 rfl
theorem q632 : (Jvm.Cond.fieldLinkNest "PlyHouse" (113 : Nat) "PlyHouse$Part" "splits" "I" "PlyHouse") ∈ lw_tbl := lw_at lw_m3 99 rfl
theorem q634 : (Jvm.Cond.fieldLinkNest "PlyHouse" (116 : Nat) "PlyHouse$Part" "holes" "I" "PlyHouse") ∈ lw_tbl := lw_at lw_m3 101 rfl
theorem q636 : (Jvm.Cond.fieldLinkNest "PlyHouse" (119 : Nat) "PlyHouse$Part" "plugs" "I" "PlyHouse") ∈ lw_tbl := lw_at lw_m3 103 rfl
theorem q638 : (Jvm.Cond.fieldLinkNest "PlyHouse" (122 : Nat) "PlyHouse$Part" "run" "I" "PlyHouse") ∈ lw_tbl := lw_at lw_m3 105 rfl
theorem q650 : (Jvm.Cond.fieldLink "PlyHouse" (4 : Nat) "PlyHouse" "net" "[I") ∈ lw_all := lw_g (lw_at lw_m3 117 rfl) rfl
theorem q651 : (Jvm.Cond.fieldLink "PlyHouse" (20 : Nat) "PlyHouse" "centreRow" "I") ∈ lw_all := lw_g (lw_at lw_m3 118 rfl) rfl
theorem q652 : (Jvm.Cond.fieldLink "PlyHouse" (23 : Nat) "PlyHouse" "centreColumn" "I") ∈ lw_all := lw_g (lw_at lw_m3 119 rfl) rfl
theorem q653 : (Jvm.Cond.fieldLink "PlyHouse" (12 : Nat) "PlyHouse" "radius" "I") ∈ lw_all := lw_g (lw_at lw_m3 120 rfl) rfl
theorem q654 : (Jvm.Cond.fieldLink "PlyHouse" (61 : Nat) "PlyHouse" "grades" "LPlyHouse$Grades;") ∈ lw_all := lw_g (lw_at lw_m3 121 rfl) rfl
theorem q655 : (Jvm.Cond.fieldLink "PlyHouse" (41 : Nat) "PlyHouse" "faultKind" "I") ∈ lw_all := lw_g (lw_at lw_m3 122 rfl) rfl
theorem q656 : (Jvm.Cond.fieldLink "PlyHouse" (44 : Nat) "PlyHouse" "faultPlace" "I") ∈ lw_all := lw_g (lw_at lw_m3 123 rfl) rfl
theorem q657 : (Jvm.Cond.fieldLink "PlyHouse" (37 : Nat) "PlyHouse" "tape" "[B") ∈ lw_all := lw_g (lw_at lw_m3 124 rfl) rfl
theorem q658 : (Jvm.Cond.fieldLink "PlyHouse" (30 : Nat) "PlyHouse" "taped" "I") ∈ lw_all := lw_g (lw_at lw_m3 125 rfl) rfl
theorem q659 : (Jvm.Cond.fieldLink "PlyHouse" (86 : Nat) "PlyHouse" "leaf" "[B") ∈ lw_all := lw_g (lw_at lw_m3 126 rfl) rfl
theorem q660 : (Jvm.Cond.fieldLink "PlyHouse" (95 : Nat) "PlyHouse" "marks" "I") ∈ lw_all := lw_g (lw_at lw_m3 127 rfl) rfl
theorem q661 : (Jvm.Cond.fieldLink "PlyHouse" (98 : Nat) "PlyHouse" "patches" "I") ∈ lw_all := lw_g (lw_at lw_m3 128 rfl) rfl
theorem q662 : (Jvm.Cond.fieldLink "PlyHouse" (101 : Nat) "PlyHouse" "cost" "I") ∈ lw_all := lw_g (lw_at lw_m3 129 rfl) rfl
theorem q663 : (Jvm.Cond.fieldLink "PlyHouse" (104 : Nat) "PlyHouse" "part" "LPlyHouse$Part;") ∈ lw_all := lw_g (lw_at lw_m3 130 rfl) rfl
theorem q664 : (Jvm.Cond.fieldLink "PlyHouse" (153 : Nat) "PlyHouse" "worths" "[I") ∈ lw_all := lw_g (lw_at lw_m3 131 rfl) rfl
theorem q665 : (Jvm.Cond.fieldLink "PlyHouse" (156 : Nat) "PlyHouse" "fewest" "[I") ∈ lw_all := lw_g (lw_at lw_m3 132 rfl) rfl
theorem q666 : (Jvm.Cond.fieldLink "PlyHouse" (159 : Nat) "PlyHouse" "taken" "[I") ∈ lw_all := lw_g (lw_at lw_m3 133 rfl) rfl
theorem q667 : (Jvm.Cond.fieldLink "PlyHouse" (167 : Nat) "PlyHouse" "holes" "[I") ∈ lw_all := lw_g (lw_at lw_m3 134 rfl) rfl
theorem q668 : (Jvm.Cond.fieldLink "PlyHouse" (65 : Nat) "PlyHouse" "isClipped" "Z") ∈ lw_all := lw_g (lw_at lw_m3 135 rfl) rfl
theorem q669 : (Jvm.Cond.fieldLink "PlyHouse" (178 : Nat) "PlyHouse" "thicks" "[I") ∈ lw_all := lw_g (lw_at lw_m3 136 rfl) rfl
theorem q670 : (Jvm.Cond.fieldLink "PlyHouse" (181 : Nat) "PlyHouse" "offs" "[I") ∈ lw_all := lw_g (lw_at lw_m3 137 rfl) rfl
theorem q671 : (Jvm.Cond.fieldLink "PlyHouse" (184 : Nat) "PlyHouse" "prices" "[I") ∈ lw_all := lw_g (lw_at lw_m3 138 rfl) rfl
theorem q672 : (Jvm.Cond.fieldLink "PlyHouse" (187 : Nat) "PlyHouse" "isFair" "[Z") ∈ lw_all := lw_g (lw_at lw_m3 139 rfl) rfl
theorem q673 : (Jvm.Cond.fieldLink "PlyHouse" (191 : Nat) "PlyHouse" "gThick" "[I") ∈ lw_all := lw_g (lw_at lw_m3 140 rfl) rfl
theorem q674 : (Jvm.Cond.fieldLink "PlyHouse" (194 : Nat) "PlyHouse" "gMinute" "[I") ∈ lw_all := lw_g (lw_at lw_m3 141 rfl) rfl
theorem q675 : (Jvm.Cond.fieldLink "PlyHouse" (235 : Nat) "PlyHouse" "glued" "I") ∈ lw_all := lw_g (lw_at lw_m3 142 rfl) rfl
theorem q676 : (Jvm.Cond.fieldLink "PlyHouse" (197 : Nat) "PlyHouse" "openings" "I") ∈ lw_all := lw_g (lw_at lw_m3 143 rfl) rfl
theorem q677 : (Jvm.Cond.fieldLink "PlyHouse" (200 : Nat) "PlyHouse" "base" "I") ∈ lw_all := lw_g (lw_at lw_m3 144 rfl) rfl
theorem q678 : (Jvm.Cond.fieldLink "PlyHouse" (203 : Nat) "PlyHouse" "per" "I") ∈ lw_all := lw_g (lw_at lw_m3 145 rfl) rfl
theorem q679 : (Jvm.Cond.fieldLink "PlyHouse" (206 : Nat) "PlyHouse" "life" "I") ∈ lw_all := lw_g (lw_at lw_m3 146 rfl) rfl
theorem q680 : (Jvm.Cond.fieldLink "PlyHouse" (209 : Nat) "PlyHouse" "out" "[I") ∈ lw_all := lw_g (lw_at lw_m3 147 rfl) rfl
theorem q681 : (Jvm.Cond.fieldLink "PlyHouse" (212 : Nat) "PlyHouse" "loads" "[I") ∈ lw_all := lw_g (lw_at lw_m3 148 rfl) rfl
theorem q682 : (Jvm.Cond.fieldLink "PlyHouse" (215 : Nat) "PlyHouse" "putIn" "[I") ∈ lw_all := lw_g (lw_at lw_m3 149 rfl) rfl
theorem q683 : (Jvm.Cond.fieldLink "PlyHouse" (266 : Nat) "PlyHouse" "loadMany" "I") ∈ lw_all := lw_g (lw_at lw_m3 150 rfl) rfl
theorem q684 : (Jvm.Cond.fieldLink "PlyHouse" (263 : Nat) "PlyHouse" "planned" "I") ∈ lw_all := lw_g (lw_at lw_m3 151 rfl) rfl
theorem q685 : (Jvm.Cond.laysFinal "PlyHouse" "PlyHouse" "net" "[I") ∈ lw_all := lw_g (lw_at lw_m3 152 rfl) rfl
theorem q686 : (Jvm.Cond.soleField "PlyHouse" "net") ∈ lw_all := lw_g (lw_at lw_m3 153 rfl) rfl
theorem q687 : (Jvm.Cond.lays "PlyHouse" "PlyHouse" "centreRow" "I") ∈ lw_all := lw_g (lw_at lw_m3 154 rfl) rfl
theorem q688 : (Jvm.Cond.soleField "PlyHouse" "centreRow") ∈ lw_all := lw_g (lw_at lw_m3 155 rfl) rfl
theorem q689 : (Jvm.Cond.lays "PlyHouse" "PlyHouse" "centreColumn" "I") ∈ lw_all := lw_g (lw_at lw_m3 156 rfl) rfl
theorem q690 : (Jvm.Cond.soleField "PlyHouse" "centreColumn") ∈ lw_all := lw_g (lw_at lw_m3 157 rfl) rfl
theorem q691 : (Jvm.Cond.lays "PlyHouse" "PlyHouse" "radius" "I") ∈ lw_all := lw_g (lw_at lw_m3 158 rfl) rfl
theorem q692 : (Jvm.Cond.soleField "PlyHouse" "radius") ∈ lw_all := lw_g (lw_at lw_m3 159 rfl) rfl
theorem q693 : (Jvm.Cond.lays "PlyHouse" "PlyHouse" "grades" "LPlyHouse$Grades;") ∈ lw_all := lw_g (lw_at lw_m3 160 rfl) rfl
theorem q694 : (Jvm.Cond.soleField "PlyHouse" "grades") ∈ lw_all := lw_g (lw_at lw_m3 161 rfl) rfl
theorem q695 : (Jvm.Cond.lays "PlyHouse" "PlyHouse" "faultKind" "I") ∈ lw_all := lw_g (lw_at lw_m3 162 rfl) rfl
theorem q696 : (Jvm.Cond.soleField "PlyHouse" "faultKind") ∈ lw_all := lw_g (lw_at lw_m3 163 rfl) rfl
theorem q697 : (Jvm.Cond.lays "PlyHouse" "PlyHouse" "faultPlace" "I") ∈ lw_all := lw_g (lw_at lw_m3 164 rfl) rfl
theorem q698 : (Jvm.Cond.soleField "PlyHouse" "faultPlace") ∈ lw_all := lw_g (lw_at lw_m3 165 rfl) rfl
theorem q699 : (Jvm.Cond.laysFinal "PlyHouse" "PlyHouse" "tape" "[B") ∈ lw_all := lw_g (lw_at lw_m3 166 rfl) rfl
theorem q700 : (Jvm.Cond.soleField "PlyHouse" "tape") ∈ lw_all := lw_g (lw_at lw_m3 167 rfl) rfl
theorem q701 : (Jvm.Cond.lays "PlyHouse" "PlyHouse" "taped" "I") ∈ lw_all := lw_g (lw_at lw_m3 168 rfl) rfl
theorem q702 : (Jvm.Cond.soleField "PlyHouse" "taped") ∈ lw_all := lw_g (lw_at lw_m3 169 rfl) rfl
theorem q703 : (Jvm.Cond.laysFinal "PlyHouse" "PlyHouse" "leaf" "[B") ∈ lw_all := lw_g (lw_at lw_m3 170 rfl) rfl
theorem q704 : (Jvm.Cond.soleField "PlyHouse" "leaf") ∈ lw_all := lw_g (lw_at lw_m3 171 rfl) rfl
theorem q705 : (Jvm.Cond.lays "PlyHouse" "PlyHouse" "marks" "I") ∈ lw_all := lw_g (lw_at lw_m3 172 rfl) rfl
theorem q706 : (Jvm.Cond.soleField "PlyHouse" "marks") ∈ lw_all := lw_g (lw_at lw_m3 173 rfl) rfl
theorem q707 : (Jvm.Cond.lays "PlyHouse" "PlyHouse" "patches" "I") ∈ lw_all := lw_g (lw_at lw_m3 174 rfl) rfl
theorem q708 : (Jvm.Cond.soleField "PlyHouse" "patches") ∈ lw_all := lw_g (lw_at lw_m3 175 rfl) rfl
theorem q709 : (Jvm.Cond.lays "PlyHouse" "PlyHouse" "cost" "I") ∈ lw_all := lw_g (lw_at lw_m3 176 rfl) rfl
theorem q710 : (Jvm.Cond.soleField "PlyHouse" "cost") ∈ lw_all := lw_g (lw_at lw_m3 177 rfl) rfl
theorem q711 : (Jvm.Cond.laysFinal "PlyHouse" "PlyHouse" "part" "LPlyHouse$Part;") ∈ lw_all := lw_g (lw_at lw_m3 178 rfl) rfl
theorem q712 : (Jvm.Cond.soleField "PlyHouse" "part") ∈ lw_all := lw_g (lw_at lw_m3 179 rfl) rfl
theorem q713 : (Jvm.Cond.laysFinal "PlyHouse" "PlyHouse" "worths" "[I") ∈ lw_all := lw_g (lw_at lw_m3 180 rfl) rfl
theorem q714 : (Jvm.Cond.soleField "PlyHouse" "worths") ∈ lw_all := lw_g (lw_at lw_m3 181 rfl) rfl
theorem q715 : (Jvm.Cond.laysFinal "PlyHouse" "PlyHouse" "fewest" "[I") ∈ lw_all := lw_g (lw_at lw_m3 182 rfl) rfl
theorem q716 : (Jvm.Cond.soleField "PlyHouse" "fewest") ∈ lw_all := lw_g (lw_at lw_m3 183 rfl) rfl
theorem q717 : (Jvm.Cond.laysFinal "PlyHouse" "PlyHouse" "taken" "[I") ∈ lw_all := lw_g (lw_at lw_m3 184 rfl) rfl
theorem q718 : (Jvm.Cond.soleField "PlyHouse" "taken") ∈ lw_all := lw_g (lw_at lw_m3 185 rfl) rfl
theorem q719 : (Jvm.Cond.laysFinal "PlyHouse" "PlyHouse" "holes" "[I") ∈ lw_all := lw_g (lw_at lw_m3 186 rfl) rfl
theorem q720 : (Jvm.Cond.soleField "PlyHouse" "holes") ∈ lw_all := lw_g (lw_at lw_m3 187 rfl) rfl
theorem q721 : (Jvm.Cond.lays "PlyHouse" "PlyHouse" "isClipped" "Z") ∈ lw_all := lw_g (lw_at lw_m3 188 rfl) rfl
theorem q722 : (Jvm.Cond.soleField "PlyHouse" "isClipped") ∈ lw_all := lw_g (lw_at lw_m3 189 rfl) rfl
theorem q723 : (Jvm.Cond.laysFinal "PlyHouse" "PlyHouse" "thicks" "[I") ∈ lw_all := lw_g (lw_at lw_m3 190 rfl) rfl
theorem q724 : (Jvm.Cond.soleField "PlyHouse" "thicks") ∈ lw_all := lw_g (lw_at lw_m3 191 rfl) rfl
theorem q725 : (Jvm.Cond.laysFinal "PlyHouse" "PlyHouse" "offs" "[I") ∈ lw_all := lw_g (lw_at lw_m3 192 rfl) rfl
theorem q726 : (Jvm.Cond.soleField "PlyHouse" "offs") ∈ lw_all := lw_g (lw_at lw_m3 193 rfl) rfl
theorem q727 : (Jvm.Cond.laysFinal "PlyHouse" "PlyHouse" "prices" "[I") ∈ lw_all := lw_g (lw_at lw_m3 194 rfl) rfl
theorem q728 : (Jvm.Cond.soleField "PlyHouse" "prices") ∈ lw_all := lw_g (lw_at lw_m3 195 rfl) rfl
theorem q729 : (Jvm.Cond.laysFinal "PlyHouse" "PlyHouse" "isFair" "[Z") ∈ lw_all := lw_g (lw_at lw_m3 196 rfl) rfl
theorem q730 : (Jvm.Cond.soleField "PlyHouse" "isFair") ∈ lw_all := lw_g (lw_at lw_m3 197 rfl) rfl
theorem q731 : (Jvm.Cond.laysFinal "PlyHouse" "PlyHouse" "gThick" "[I") ∈ lw_all := lw_g (lw_at lw_m3 198 rfl) rfl
theorem q732 : (Jvm.Cond.soleField "PlyHouse" "gThick") ∈ lw_all := lw_g (lw_at lw_m3 199 rfl) rfl
theorem q733 : (Jvm.Cond.laysFinal "PlyHouse" "PlyHouse" "gMinute" "[I") ∈ lw_all := lw_g (lw_at lw_m3 200 rfl) rfl
theorem q734 : (Jvm.Cond.soleField "PlyHouse" "gMinute") ∈ lw_all := lw_g (lw_at lw_m3 201 rfl) rfl
theorem q735 : (Jvm.Cond.lays "PlyHouse" "PlyHouse" "glued" "I") ∈ lw_all := lw_g (lw_at lw_m3 202 rfl) rfl
theorem q736 : (Jvm.Cond.soleField "PlyHouse" "glued") ∈ lw_all := lw_g (lw_at lw_m3 203 rfl) rfl
theorem q737 : (Jvm.Cond.lays "PlyHouse" "PlyHouse" "openings" "I") ∈ lw_all := lw_g (lw_at lw_m3 204 rfl) rfl
theorem q738 : (Jvm.Cond.soleField "PlyHouse" "openings") ∈ lw_all := lw_g (lw_at lw_m3 205 rfl) rfl
theorem q739 : (Jvm.Cond.lays "PlyHouse" "PlyHouse" "base" "I") ∈ lw_all := lw_g (lw_at lw_m3 206 rfl) rfl
theorem q740 : (Jvm.Cond.soleField "PlyHouse" "base") ∈ lw_all := lw_g (lw_at lw_m3 207 rfl) rfl
theorem q741 : (Jvm.Cond.lays "PlyHouse" "PlyHouse" "per" "I") ∈ lw_all := lw_g (lw_at lw_m3 208 rfl) rfl
theorem q742 : (Jvm.Cond.soleField "PlyHouse" "per") ∈ lw_all := lw_g (lw_at lw_m3 209 rfl) rfl
theorem q743 : (Jvm.Cond.lays "PlyHouse" "PlyHouse" "life" "I") ∈ lw_all := lw_g (lw_at lw_m3 210 rfl) rfl
theorem q744 : (Jvm.Cond.soleField "PlyHouse" "life") ∈ lw_all := lw_g (lw_at lw_m3 211 rfl) rfl
theorem q745 : (Jvm.Cond.laysFinal "PlyHouse" "PlyHouse" "out" "[I") ∈ lw_all := lw_g (lw_at lw_m3 212 rfl) rfl
theorem q746 : (Jvm.Cond.soleField "PlyHouse" "out") ∈ lw_all := lw_g (lw_at lw_m3 213 rfl) rfl
theorem q747 : (Jvm.Cond.laysFinal "PlyHouse" "PlyHouse" "loads" "[I") ∈ lw_all := lw_g (lw_at lw_m3 214 rfl) rfl
theorem q748 : (Jvm.Cond.soleField "PlyHouse" "loads") ∈ lw_all := lw_g (lw_at lw_m3 215 rfl) rfl
theorem q749 : (Jvm.Cond.laysFinal "PlyHouse" "PlyHouse" "putIn" "[I") ∈ lw_all := lw_g (lw_at lw_m3 216 rfl) rfl
theorem q750 : (Jvm.Cond.soleField "PlyHouse" "putIn") ∈ lw_all := lw_g (lw_at lw_m3 217 rfl) rfl
theorem q751 : (Jvm.Cond.lays "PlyHouse" "PlyHouse" "loadMany" "I") ∈ lw_all := lw_g (lw_at lw_m3 218 rfl) rfl
theorem q752 : (Jvm.Cond.soleField "PlyHouse" "loadMany") ∈ lw_all := lw_g (lw_at lw_m3 219 rfl) rfl
theorem q753 : (Jvm.Cond.lays "PlyHouse" "PlyHouse" "planned" "I") ∈ lw_all := lw_g (lw_at lw_m3 220 rfl) rfl
theorem q754 : (Jvm.Cond.soleField "PlyHouse" "planned") ∈ lw_all := lw_g (lw_at lw_m3 221 rfl) rfl
theorem q755 : (Jvm.Cond.superclass "PlyHouse" "java/lang/Object") ∈ lw_all := lw_g (lw_at lw_m3 222 rfl) rfl
theorem q758 : (Jvm.Cond.instanceMethod ({ cls := "PlyHouse", name := "veneer", desc := "(IIIIZ)Z" } : Jvm.MethodName)) ∈ lw_all := lw_g (lw_at lw_m3 225 rfl) rfl
theorem q759 : (Jvm.Cond.selects "PlyHouse" ({ cls := "PlyHouse", name := "veneer", desc := "(IIIIZ)Z" } : Jvm.MethodName) ({ cls := "PlyHouse", name := "veneer", desc := "(IIIIZ)Z" } : Jvm.MethodName)) ∈ lw_all := lw_g (lw_at lw_m3 226 rfl) rfl
theorem q760 : (Jvm.Cond.code ({ cls := "PlyHouse", name := "veneer", desc := "(IIIIZ)Z" } : Jvm.MethodName) prog_1_method_26_code (6 : Nat) (Option.some Jvm.ClassFile.FieldType.boolean)) ∈ lw_all := lw_g (lw_at lw_m3 227 rfl) rfl
theorem q762 : (Jvm.Cond.instanceMethod ({ cls := "PlyHouse", name := "board", desc := "(III)I" } : Jvm.MethodName)) ∈ lw_all := lw_g (lw_at lw_m3 229 rfl) rfl
theorem q763 : (Jvm.Cond.selects "PlyHouse" ({ cls := "PlyHouse", name := "board", desc := "(III)I" } : Jvm.MethodName) ({ cls := "PlyHouse", name := "board", desc := "(III)I" } : Jvm.MethodName)) ∈ lw_all := lw_g (lw_at lw_m3 230 rfl) rfl
theorem q764 : (Jvm.Cond.code ({ cls := "PlyHouse", name := "board", desc := "(III)I" } : Jvm.MethodName) prog_1_method_31_code (4 : Nat) (Option.some Jvm.ClassFile.FieldType.int)) ∈ lw_all := lw_g (lw_at lw_m3 231 rfl) rfl
theorem q765 : (Jvm.Cond.methodLink "PlyHouse" (221 : Nat) ({ cls := "PlyHouse", name := "isBoard", desc := "(II)Z" } : Jvm.MethodName)) ∈ lw_all := lw_g (lw_at lw_m3 232 rfl) rfl
theorem q766 : (Jvm.Cond.static ({ cls := "PlyHouse", name := "isBoard", desc := "(II)Z" } : Jvm.MethodName)) ∈ lw_all := lw_g (lw_at lw_m3 233 rfl) rfl
theorem q767 : (Jvm.Cond.code ({ cls := "PlyHouse", name := "isBoard", desc := "(II)Z" } : Jvm.MethodName) prog_1_method_28_code (3 : Nat) (Option.some Jvm.ClassFile.FieldType.boolean)) ∈ lw_all := lw_g (lw_at lw_m3 234 rfl) rfl
theorem q768 : (Jvm.Cond.methodLink "PlyHouse" (218 : Nat) ({ cls := "PlyHouse", name := "kindOf", desc := "(II)I" } : Jvm.MethodName)) ∈ lw_all := lw_g (lw_at lw_m3 235 rfl) rfl
theorem q769 : (Jvm.Cond.static ({ cls := "PlyHouse", name := "kindOf", desc := "(II)I" } : Jvm.MethodName)) ∈ lw_all := lw_g (lw_at lw_m3 236 rfl) rfl
theorem q770 : (Jvm.Cond.code ({ cls := "PlyHouse", name := "kindOf", desc := "(II)I" } : Jvm.MethodName) prog_1_method_27_code (2 : Nat) (Option.some Jvm.ClassFile.FieldType.int)) ∈ lw_all := lw_g (lw_at lw_m3 237 rfl) rfl
theorem q771 : (Jvm.Cond.methodLink "PlyHouse" (224 : Nat) ({ cls := "PlyHouse", name := "thick", desc := "(III)I" } : Jvm.MethodName)) ∈ lw_all := lw_g (lw_at lw_m3 238 rfl) rfl
theorem q772 : (Jvm.Cond.privateMethod ({ cls := "PlyHouse", name := "thick", desc := "(III)I" } : Jvm.MethodName)) ∈ lw_tbl := lw_at lw_m3 239 rfl
theorem q773 : (Jvm.Cond.instanceMethod ({ cls := "PlyHouse", name := "thick", desc := "(III)I" } : Jvm.MethodName)) ∈ lw_all := lw_g (lw_at lw_m4 0 rfl) rfl
theorem q774 : (Jvm.Cond.code ({ cls := "PlyHouse", name := "thick", desc := "(III)I" } : Jvm.MethodName) prog_1_method_29_code (6 : Nat) (Option.some Jvm.ClassFile.FieldType.int)) ∈ lw_all := lw_g (lw_at lw_m4 1 rfl) rfl
theorem q775 : (Jvm.Cond.methodLink "PlyHouse" (228 : Nat) ({ cls := "PlyHouse", name := "price", desc := "(II)I" } : Jvm.MethodName)) ∈ lw_all := lw_g (lw_at lw_m4 2 rfl) rfl
theorem q776 : (Jvm.Cond.privateMethod ({ cls := "PlyHouse", name := "price", desc := "(II)I" } : Jvm.MethodName)) ∈ lw_tbl := lw_at lw_m4 3 rfl
theorem q777 : (Jvm.Cond.instanceMethod ({ cls := "PlyHouse", name := "price", desc := "(II)I" } : Jvm.MethodName)) ∈ lw_all := lw_g (lw_at lw_m4 4 rfl) rfl
theorem q778 : (Jvm.Cond.code ({ cls := "PlyHouse", name := "price", desc := "(II)I" } : Jvm.MethodName) prog_1_method_30_code (5 : Nat) (Option.some Jvm.ClassFile.FieldType.int)) ∈ lw_all := lw_g (lw_at lw_m4 5 rfl) rfl
theorem q780 : (Jvm.Cond.instanceMethod ({ cls := "PlyHouse", name := "warp", desc := "(II)I" } : Jvm.MethodName)) ∈ lw_all := lw_g (lw_at lw_m4 7 rfl) rfl
theorem q781 : (Jvm.Cond.selects "PlyHouse" ({ cls := "PlyHouse", name := "warp", desc := "(II)I" } : Jvm.MethodName) ({ cls := "PlyHouse", name := "warp", desc := "(II)I" } : Jvm.MethodName)) ∈ lw_all := lw_g (lw_at lw_m4 8 rfl) rfl
theorem q782 : (Jvm.Cond.code ({ cls := "PlyHouse", name := "warp", desc := "(II)I" } : Jvm.MethodName) prog_1_method_32_code (9 : Nat) (Option.some Jvm.ClassFile.FieldType.int)) ∈ lw_all := lw_g (lw_at lw_m4 9 rfl) rfl
theorem q783 : (Jvm.Cond.constant "PlyHouse" (231 : Nat) (-2000000 : Int32)) ∈ lw_all := lw_g (lw_at lw_m4 10 rfl) rfl
theorem q785 : (Jvm.Cond.instanceMethod ({ cls := "PlyHouse", name := "best", desc := "(III)I" } : Jvm.MethodName)) ∈ lw_all := lw_g (lw_at lw_m4 12 rfl) rfl
theorem q786 : (Jvm.Cond.selects "PlyHouse" ({ cls := "PlyHouse", name := "best", desc := "(III)I" } : Jvm.MethodName) ({ cls := "PlyHouse", name := "best", desc := "(III)I" } : Jvm.MethodName)) ∈ lw_all := lw_g (lw_at lw_m4 13 rfl) rfl
theorem q787 : (Jvm.Cond.code ({ cls := "PlyHouse", name := "best", desc := "(III)I" } : Jvm.MethodName) prog_1_method_34_code (8 : Nat) (Option.some Jvm.ClassFile.FieldType.int)) ∈ lw_all := lw_g (lw_at lw_m4 14 rfl) rfl
theorem q788 : (Jvm.Cond.methodLink "PlyHouse" (232 : Nat) ({ cls := "PlyHouse", name := "balanced", desc := "(II)I" } : Jvm.MethodName)) ∈ lw_all := lw_g (lw_at lw_m4 15 rfl) rfl
theorem q789 : (Jvm.Cond.static ({ cls := "PlyHouse", name := "balanced", desc := "(II)I" } : Jvm.MethodName)) ∈ lw_all := lw_g (lw_at lw_m4 16 rfl) rfl
theorem q790 : (Jvm.Cond.code ({ cls := "PlyHouse", name := "balanced", desc := "(II)I" } : Jvm.MethodName) prog_1_method_33_code (7 : Nat) (Option.some Jvm.ClassFile.FieldType.int)) ∈ lw_all := lw_g (lw_at lw_m4 17 rfl) rfl
theorem q792 : (Jvm.Cond.instanceMethod ({ cls := "PlyHouse", name := "press", desc := "(IIII)Z" } : Jvm.MethodName)) ∈ lw_all := lw_g (lw_at lw_m4 19 rfl) rfl
theorem q793 : (Jvm.Cond.selects "PlyHouse" ({ cls := "PlyHouse", name := "press", desc := "(IIII)Z" } : Jvm.MethodName) ({ cls := "PlyHouse", name := "press", desc := "(IIII)Z" } : Jvm.MethodName)) ∈ lw_all := lw_g (lw_at lw_m4 20 rfl) rfl
theorem q794 : (Jvm.Cond.code ({ cls := "PlyHouse", name := "press", desc := "(IIII)Z" } : Jvm.MethodName) prog_1_method_35_code (5 : Nat) (Option.some Jvm.ClassFile.FieldType.boolean)) ∈ lw_all := lw_g (lw_at lw_m4 21 rfl) rfl
theorem q796 : (Jvm.Cond.instanceMethod ({ cls := "PlyHouse", name := "glue", desc := "(II)I" } : Jvm.MethodName)) ∈ lw_all := lw_g (lw_at lw_m4 23 rfl) rfl
theorem q797 : (Jvm.Cond.selects "PlyHouse" ({ cls := "PlyHouse", name := "glue", desc := "(II)I" } : Jvm.MethodName) ({ cls := "PlyHouse", name := "glue", desc := "(II)I" } : Jvm.MethodName)) ∈ lw_all := lw_g (lw_at lw_m4 24 rfl) rfl
theorem q798 : (Jvm.Cond.code ({ cls := "PlyHouse", name := "glue", desc := "(II)I" } : Jvm.MethodName) prog_1_method_36_code (3 : Nat) (Option.some Jvm.ClassFile.FieldType.int)) ∈ lw_all := lw_g (lw_at lw_m4 25 rfl) rfl
theorem q800 : (Jvm.Cond.instanceMethod ({ cls := "PlyHouse", name := "drop", desc := "()Z" } : Jvm.MethodName)) ∈ lw_all := lw_g (lw_at lw_m4 27 rfl) rfl
theorem q801 : (Jvm.Cond.selects "PlyHouse" ({ cls := "PlyHouse", name := "drop", desc := "()Z" } : Jvm.MethodName) ({ cls := "PlyHouse", name := "drop", desc := "()Z" } : Jvm.MethodName)) ∈ lw_all := lw_g (lw_at lw_m4 28 rfl) rfl
theorem q802 : (Jvm.Cond.code ({ cls := "PlyHouse", name := "drop", desc := "()Z" } : Jvm.MethodName) prog_1_method_37_code (1 : Nat) (Option.some Jvm.ClassFile.FieldType.boolean)) ∈ lw_all := lw_g (lw_at lw_m4 29 rfl) rfl
theorem q804 : (Jvm.Cond.instanceMethod ({ cls := "PlyHouse", name := "plan", desc := "(I)I" } : Jvm.MethodName)) ∈ lw_all := lw_g (lw_at lw_m4 31 rfl) rfl
theorem q805 : (Jvm.Cond.selects "PlyHouse" ({ cls := "PlyHouse", name := "plan", desc := "(I)I" } : Jvm.MethodName) ({ cls := "PlyHouse", name := "plan", desc := "(I)I" } : Jvm.MethodName)) ∈ lw_all := lw_g (lw_at lw_m4 32 rfl) rfl
theorem q806 : (Jvm.Cond.code ({ cls := "PlyHouse", name := "plan", desc := "(I)I" } : Jvm.MethodName) prog_1_method_43_code (2 : Nat) (Option.some Jvm.ClassFile.FieldType.int)) ∈ lw_all := lw_g (lw_at lw_m4 33 rfl) rfl
theorem q807 : (Jvm.Cond.methodLink "PlyHouse" (269 : Nat) ({ cls := "PlyHouse", name := "plan", desc := "()V" } : Jvm.MethodName)) ∈ lw_all := lw_g (lw_at lw_m4 34 rfl) rfl
theorem q808 : (Jvm.Cond.privateMethod ({ cls := "PlyHouse", name := "plan", desc := "()V" } : Jvm.MethodName)) ∈ lw_tbl := lw_at lw_m4 35 rfl
theorem q809 : (Jvm.Cond.instanceMethod ({ cls := "PlyHouse", name := "plan", desc := "()V" } : Jvm.MethodName)) ∈ lw_all := lw_g (lw_at lw_m4 36 rfl) rfl
theorem q810 : (Jvm.Cond.code ({ cls := "PlyHouse", name := "plan", desc := "()V" } : Jvm.MethodName) prog_1_method_42_code (4 : Nat) (Option.none : Option Jvm.ClassFile.FieldType)) ∈ lw_all := lw_g (lw_at lw_m4 37 rfl) rfl
theorem q811 : (Jvm.Cond.methodLink "PlyHouse" (257 : Nat) ({ cls := "PlyHouse", name := "lastOf", desc := "(I)I" } : Jvm.MethodName)) ∈ lw_all := lw_g (lw_at lw_m4 38 rfl) rfl
theorem q812 : (Jvm.Cond.privateMethod ({ cls := "PlyHouse", name := "lastOf", desc := "(I)I" } : Jvm.MethodName)) ∈ lw_tbl := lw_at lw_m4 39 rfl
theorem q813 : (Jvm.Cond.instanceMethod ({ cls := "PlyHouse", name := "lastOf", desc := "(I)I" } : Jvm.MethodName)) ∈ lw_all := lw_g (lw_at lw_m4 40 rfl) rfl
theorem q814 : (Jvm.Cond.code ({ cls := "PlyHouse", name := "lastOf", desc := "(I)I" } : Jvm.MethodName) prog_1_method_41_code (4 : Nat) (Option.some Jvm.ClassFile.FieldType.int)) ∈ lw_all := lw_g (lw_at lw_m4 41 rfl) rfl
theorem q815 : (Jvm.Cond.methodLink "PlyHouse" (254 : Nat) ({ cls := "PlyHouse", name := "outBy", desc := "(II)I" } : Jvm.MethodName)) ∈ lw_all := lw_g (lw_at lw_m4 42 rfl) rfl
theorem q816 : (Jvm.Cond.privateMethod ({ cls := "PlyHouse", name := "outBy", desc := "(II)I" } : Jvm.MethodName)) ∈ lw_tbl := lw_at lw_m4 43 rfl
theorem q817 : (Jvm.Cond.instanceMethod ({ cls := "PlyHouse", name := "outBy", desc := "(II)I" } : Jvm.MethodName)) ∈ lw_all := lw_g (lw_at lw_m4 44 rfl) rfl
theorem q818 : (Jvm.Cond.code ({ cls := "PlyHouse", name := "outBy", desc := "(II)I" } : Jvm.MethodName) prog_1_method_40_code (4 : Nat) (Option.some Jvm.ClassFile.FieldType.int)) ∈ lw_all := lw_g (lw_at lw_m4 45 rfl) rfl
theorem q819 : (Jvm.Cond.constant "PlyHouse" (238 : Nat) (1000000 : Int32)) ∈ lw_all := lw_g (lw_at lw_m4 46 rfl) rfl
theorem q820 : (Jvm.Cond.methodLink "PlyHouse" (248 : Nat) ({ cls := "PlyHouse", name := "begins", desc := "(II)I" } : Jvm.MethodName)) ∈ lw_all := lw_g (lw_at lw_m4 47 rfl) rfl
theorem q821 : (Jvm.Cond.privateMethod ({ cls := "PlyHouse", name := "begins", desc := "(II)I" } : Jvm.MethodName)) ∈ lw_tbl := lw_at lw_m4 48 rfl
theorem q822 : (Jvm.Cond.instanceMethod ({ cls := "PlyHouse", name := "begins", desc := "(II)I" } : Jvm.MethodName)) ∈ lw_all := lw_g (lw_at lw_m4 49 rfl) rfl
theorem q823 : (Jvm.Cond.code ({ cls := "PlyHouse", name := "begins", desc := "(II)I" } : Jvm.MethodName) prog_1_method_38_code (8 : Nat) (Option.some Jvm.ClassFile.FieldType.int)) ∈ lw_all := lw_g (lw_at lw_m4 50 rfl) rfl
theorem q824 : (Jvm.Cond.methodLink "PlyHouse" (239 : Nat) ({ cls := "java/lang/Math", name := "min", desc := "(II)I" } : Jvm.MethodName)) ∈ lw_all := lw_g (lw_at lw_m4 51 rfl) rfl
theorem q825 : (Jvm.Cond.methodLink "PlyHouse" (251 : Nat) ({ cls := "PlyHouse", name := "takes", desc := "(I)I" } : Jvm.MethodName)) ∈ lw_all := lw_g (lw_at lw_m4 52 rfl) rfl
theorem q826 : (Jvm.Cond.privateMethod ({ cls := "PlyHouse", name := "takes", desc := "(I)I" } : Jvm.MethodName)) ∈ lw_tbl := lw_at lw_m4 53 rfl
theorem q827 : (Jvm.Cond.instanceMethod ({ cls := "PlyHouse", name := "takes", desc := "(I)I" } : Jvm.MethodName)) ∈ lw_all := lw_g (lw_at lw_m4 54 rfl) rfl
theorem q828 : (Jvm.Cond.code ({ cls := "PlyHouse", name := "takes", desc := "(I)I" } : Jvm.MethodName) prog_1_method_39_code (2 : Nat) (Option.some Jvm.ClassFile.FieldType.int)) ∈ lw_all := lw_g (lw_at lw_m4 55 rfl) rfl
theorem q829 : (Jvm.Cond.methodLink "PlyHouse" (242 : Nat) ({ cls := "java/lang/Integer", name := "numberOfTrailingZeros", desc := "(I)I" } : Jvm.MethodName)) ∈ lw_all := lw_g (lw_at lw_m4 56 rfl) rfl
theorem q833 : (Jvm.Cond.methodLink "PlyHouse" (260 : Nat) ({ cls := "java/lang/Integer", name := "bitCount", desc := "(I)I" } : Jvm.MethodName)) ∈ lw_all := lw_g (lw_at lw_m4 60 rfl) rfl
theorem q840 : (Jvm.Cond.instanceMethod ({ cls := "PlyHouse", name := "load", desc := "(II)I" } : Jvm.MethodName)) ∈ lw_all := lw_g (lw_at lw_m4 67 rfl) rfl
theorem q841 : (Jvm.Cond.selects "PlyHouse" ({ cls := "PlyHouse", name := "load", desc := "(II)I" } : Jvm.MethodName) ({ cls := "PlyHouse", name := "load", desc := "(II)I" } : Jvm.MethodName)) ∈ lw_all := lw_g (lw_at lw_m4 68 rfl) rfl
theorem q842 : (Jvm.Cond.code ({ cls := "PlyHouse", name := "load", desc := "(II)I" } : Jvm.MethodName) prog_1_method_44_code (3 : Nat) (Option.some Jvm.ClassFile.FieldType.int)) ∈ lw_all := lw_g (lw_at lw_m4 69 rfl) rfl
theorem q844 : (Jvm.Cond.instanceMethod ({ cls := "PlyHouse", name := "about", desc := "(I)I" } : Jvm.MethodName)) ∈ lw_all := lw_g (lw_at lw_m4 71 rfl) rfl
theorem q845 : (Jvm.Cond.selects "PlyHouse" ({ cls := "PlyHouse", name := "about", desc := "(I)I" } : Jvm.MethodName) ({ cls := "PlyHouse", name := "about", desc := "(I)I" } : Jvm.MethodName)) ∈ lw_all := lw_g (lw_at lw_m4 72 rfl) rfl
theorem q846 : (Jvm.Cond.code ({ cls := "PlyHouse", name := "about", desc := "(I)I" } : Jvm.MethodName) prog_1_method_45_code (2 : Nat) (Option.some Jvm.ClassFile.FieldType.int)) ∈ lw_all := lw_g (lw_at lw_m4 73 rfl) rfl
theorem in_X0 : ∀ w ∈ wsX00, w ∈ lw_all := lw_in wsX00 [685, 687, 689, 691, 693, 695, 697, 699, 701, 703, 705, 707, 709, 711, 713, 715, 717, 719, 721, 723, 725, 727, 729, 731, 733, 735, 737, 739, 741, 743, 745, 747, 749, 751, 753] (by decide +kernel) (by decide +kernel)
