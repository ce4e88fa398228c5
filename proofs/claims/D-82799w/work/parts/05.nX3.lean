/-! PlyHouseModel -/
set_option maxRecDepth 100000
def RX3 : String := "PlyHouseModel"
def TX3 : u_T := fun k => match k with
  | 0 => ("PlyHouseModel", "net", "[I", true)
  | 1 => ("PlyHouseModel", "centreY", "I", false)
  | 2 => ("PlyHouseModel", "centreX", "I", false)
  | 3 => ("PlyHouseModel", "radius", "I", false)
  | 4 => ("PlyHouseModel", "tape", "[I", true)
  | 5 => ("PlyHouseModel", "taped", "I", false)
  | 6 => ("PlyHouseModel", "fault", "I", false)
  | 7 => ("PlyHouseModel", "faultPlace", "I", false)
  | 8 => ("PlyHouseModel", "at", "I", false)
  | 9 => ("PlyHouseModel", "size", "I", false)
  | 10 => ("PlyHouseModel", "sort", "I", false)
  | 11 => ("PlyHouseModel", "place", "I", false)
  | 12 => ("PlyHouseModel", "number", "I", false)
  | 13 => ("PlyHouseModel", "word", "J", false)
  | 14 => ("PlyHouseModel", "grades", "I", false)
  | 15 => ("PlyHouseModel", "wide", "[I", true)
  | 16 => ("PlyHouseModel", "worth", "[I", true)
  | 17 => ("PlyHouseModel", "steps", "[I", true)
  | 18 => ("PlyHouseModel", "numbers", "[I", true)
  | 19 => ("PlyHouseModel", "lineAt", "[I", true)
  | 20 => ("PlyHouseModel", "newGrades", "I", false)
  | 21 => ("PlyHouseModel", "newMany", "I", false)
  | 22 => ("PlyHouseModel", "terms", "I", false)
  | 23 => ("PlyHouseModel", "newWide", "[I", true)
  | 24 => ("PlyHouseModel", "newWorth", "[I", true)
  | 25 => ("PlyHouseModel", "newSteps", "[I", true)
  | 26 => ("PlyHouseModel", "newNumbers", "[I", true)
  | 27 => ("PlyHouseModel", "newAt", "[I", true)
  | 28 => ("PlyHouseModel", "waits", "[I", true)
  | 29 => ("PlyHouseModel", "waiting", "I", false)
  | 30 => ("PlyHouseModel", "deep", "I", false)
  | 31 => ("PlyHouseModel", "leaf", "[I", true)
  | 32 => ("PlyHouseModel", "marks", "I", false)
  | 33 => ("PlyHouseModel", "patches", "I", false)
  | 34 => ("PlyHouseModel", "patchCost", "I", false)
  | 35 => ("PlyHouseModel", "names", "[I", true)
  | 36 => ("PlyHouseModel", "pile", "[I", true)
  | 37 => ("PlyHouseModel", "best", "[I", true)
  | 38 => ("PlyHouseModel", "fewest", "[I", true)
  | 39 => ("PlyHouseModel", "cutAt", "[I", true)
  | 40 => ("PlyHouseModel", "cutGrade", "[I", true)
  | 41 => ("PlyHouseModel", "cutPatched", "[I", true)
  | 42 => ("PlyHouseModel", "can", "[Z", true)
  | 43 => ("PlyHouseModel", "cuts", "I", false)
  | 44 => ("PlyHouseModel", "thick", "[I", true)
  | 45 => ("PlyHouseModel", "off", "[I", true)
  | 46 => ("PlyHouseModel", "price", "[I", true)
  | 47 => ("PlyHouseModel", "layer", "[I", true)
  | 48 => ("PlyHouseModel", "isFair", "[Z", true)
  | 49 => ("PlyHouseModel", "openings", "I", false)
  | 50 => ("PlyHouseModel", "base", "I", false)
  | 51 => ("PlyHouseModel", "per", "I", false)
  | 52 => ("PlyHouseModel", "life", "I", false)
  | 53 => ("PlyHouseModel", "boards", "I", false)
  | 54 => ("PlyHouseModel", "boardThick", "[I", true)
  | 55 => ("PlyHouseModel", "glued", "[I", true)
  | 56 => ("PlyHouseModel", "out", "[I", true)
  | 57 => ("PlyHouseModel", "loadSet", "[I", true)
  | 58 => ("PlyHouseModel", "loadAt", "[I", true)
  | 59 => ("PlyHouseModel", "pressed", "I", false)
  | _ => ("PlyHouseModel", "loads", "I", false)
def tyX3 : Nat → FieldType := fun k => match k with
  | 0 => .array .int
  | 1 => .int
  | 2 => .int
  | 3 => .int
  | 4 => .array .int
  | 5 => .int
  | 6 => .int
  | 7 => .int
  | 8 => .int
  | 9 => .int
  | 10 => .int
  | 11 => .int
  | 12 => .int
  | 13 => .long
  | 14 => .int
  | 15 => .array .int
  | 16 => .array .int
  | 17 => .array .int
  | 18 => .array .int
  | 19 => .array .int
  | 20 => .int
  | 21 => .int
  | 22 => .int
  | 23 => .array .int
  | 24 => .array .int
  | 25 => .array .int
  | 26 => .array .int
  | 27 => .array .int
  | 28 => .array .int
  | 29 => .int
  | 30 => .int
  | 31 => .array .int
  | 32 => .int
  | 33 => .int
  | 34 => .int
  | 35 => .array .int
  | 36 => .array .int
  | 37 => .array .int
  | 38 => .array .int
  | 39 => .array .int
  | 40 => .array .int
  | 41 => .array .int
  | 42 => .array .boolean
  | 43 => .int
  | 44 => .array .int
  | 45 => .array .int
  | 46 => .array .int
  | 47 => .array .int
  | 48 => .array .boolean
  | 49 => .int
  | 50 => .int
  | 51 => .int
  | 52 => .int
  | 53 => .int
  | 54 => .array .int
  | 55 => .array .int
  | 56 => .array .int
  | 57 => .array .int
  | 58 => .array .int
  | 59 => .int
  | _ => .int
abbrev wsX30 : List Cond := u_ws RX3 TX3 61
set_option maxRecDepth 100000 in
theorem nmX3 : ∀ a, a < 61 → ∀ b, b < 61 → a ≠ b → (TX3 a).2.1 ≠ (TX3 b).2.1 := by decide +kernel
set_option maxRecDepth 100000 in
theorem tyX3_ok : ∀ k, k < 61 → parseFieldDescriptor (TX3 k).2.2.1 = some (tyX3 k) := by decide +kernel
abbrev cX3_init : ByteArray := prog_16_method_1_code
def yX3_init : MethodName := ⟨RX3, "<init>", "()V"⟩
def dkwX3_init_14 : List UInt8 := [180, 0, 90, 27, 4, 79, 42, 180, 0, 96, 27, 4, 84, 132, 1, 1, 167, 255, 225, 177]
abbrev dktX3_init_14 : List UInt8 := dkwX3_init_14 ++ []
def dkwX3_init_13 : List UInt8 := [188, 10, 181, 0, 123, 3, 60, 27, 16, 6, 162, 0, 31, 42, 180, 0, 84, 27, 16, 10, 79, 42]
abbrev dktX3_init_13 : List UInt8 := dkwX3_init_13 ++ dktX3_init_14
def dkwX3_init_12 : List UInt8 := [181, 0, 114, 42, 17, 4, 0, 188, 10, 181, 0, 117, 42, 16, 10, 188, 10, 181, 0, 120, 42, 16, 10]
abbrev dktX3_init_12 : List UInt8 := dkwX3_init_12 ++ dktX3_init_13
def dkwX3_init_11 : List UInt8 := [181, 0, 105, 42, 16, 60, 181, 0, 108, 42, 16, 10, 188, 10, 181, 0, 111, 42, 16, 10, 188, 10]
abbrev dktX3_init_11 : List UInt8 := dkwX3_init_11 ++ dktX3_init_12
def dkwX3_init_10 : List UInt8 := [181, 0, 93, 42, 16, 6, 188, 4, 181, 0, 96, 42, 4, 181, 0, 99, 42, 16, 10, 181, 0, 102, 42, 4]
abbrev dktX3_init_10 : List UInt8 := dkwX3_init_10 ++ dktX3_init_11
def dkwX3_init_9 : List UInt8 := [181, 0, 84, 42, 16, 6, 188, 10, 181, 0, 87, 42, 16, 6, 188, 10, 181, 0, 90, 42, 16, 9, 188, 10]
abbrev dktX3_init_9 : List UInt8 := dkwX3_init_9 ++ dktX3_init_10
def dkwX3_init_8 : List UInt8 := [17, 1, 44, 188, 10, 181, 0, 77, 42, 17, 37, 128, 188, 4, 181, 0, 80, 42, 16, 6, 188, 10]
abbrev dktX3_init_8 : List UInt8 := dkwX3_init_8 ++ dktX3_init_9
def dkwX3_init_7 : List UInt8 := [181, 0, 68, 42, 17, 1, 44, 188, 10, 181, 0, 71, 42, 17, 1, 44, 188, 10, 181, 0, 74, 42]
abbrev dktX3_init_7 : List UInt8 := dkwX3_init_7 ++ dktX3_init_8
def dkwX3_init_6 : List UInt8 := [42, 17, 0, 200, 188, 10, 181, 0, 62, 42, 17, 1, 45, 188, 10, 181, 0, 65, 42, 17, 1, 45, 188, 10]
abbrev dktX3_init_6 : List UInt8 := dkwX3_init_6 ++ dktX3_init_7
def dkwX3_init_5 : List UInt8 := [181, 0, 50, 42, 17, 1, 44, 188, 10, 181, 0, 53, 42, 4, 181, 0, 56, 42, 8, 188, 10, 181, 0, 59]
abbrev dktX3_init_5 : List UInt8 := dkwX3_init_5 ++ dktX3_init_6
def dkwX3_init_4 : List UInt8 := [42, 17, 2, 88, 188, 10, 181, 0, 44, 42, 16, 9, 188, 10, 181, 0, 47, 42, 17, 1, 44, 188, 10]
abbrev dktX3_init_4 : List UInt8 := dkwX3_init_4 ++ dktX3_init_5
def dkwX3_init_3 : List UInt8 := [16, 8, 188, 10, 181, 0, 35, 42, 16, 8, 188, 10, 181, 0, 38, 42, 17, 2, 88, 188, 10, 181, 0, 41]
abbrev dktX3_init_3 : List UInt8 := dkwX3_init_3 ++ dktX3_init_4
def dkwX3_init_2 : List UInt8 := [188, 10, 181, 0, 26, 42, 17, 2, 88, 188, 10, 181, 0, 29, 42, 16, 9, 188, 10, 181, 0, 32, 42]
abbrev dktX3_init_2 : List UInt8 := dkwX3_init_2 ++ dktX3_init_3
def dkwX3_init_1 : List UInt8 := [181, 0, 16, 42, 16, 8, 188, 10, 181, 0, 20, 42, 16, 8, 188, 10, 181, 0, 23, 42, 17, 2, 88]
abbrev dktX3_init_1 : List UInt8 := dkwX3_init_1 ++ dktX3_init_2
def dkwX3_init_0 : List UInt8 := [42, 183, 0, 1, 42, 16, 24, 188, 10, 181, 0, 7, 42, 17, 2, 88, 188, 10, 181, 0, 13, 42, 2]
abbrev dktX3_init_0 : List UInt8 := dkwX3_init_0 ++ dktX3_init_1
theorem dksX3_init_0 : cX3_init.data.toList.drop 0 = dktX3_init_0 := by decide +kernel
theorem dksX3_init_1 : cX3_init.data.toList.drop 23 = dktX3_init_1 := dk_seg dksX3_init_0 23 rfl rfl
theorem dksX3_init_2 : cX3_init.data.toList.drop 46 = dktX3_init_2 := dk_seg dksX3_init_1 23 rfl rfl
theorem dksX3_init_3 : cX3_init.data.toList.drop 69 = dktX3_init_3 := dk_seg dksX3_init_2 23 rfl rfl
theorem dksX3_init_4 : cX3_init.data.toList.drop 93 = dktX3_init_4 := dk_seg dksX3_init_3 24 rfl rfl
theorem dksX3_init_5 : cX3_init.data.toList.drop 116 = dktX3_init_5 := dk_seg dksX3_init_4 23 rfl rfl
theorem dksX3_init_6 : cX3_init.data.toList.drop 140 = dktX3_init_6 := dk_seg dksX3_init_5 24 rfl rfl
theorem dksX3_init_7 : cX3_init.data.toList.drop 164 = dktX3_init_7 := dk_seg dksX3_init_6 24 rfl rfl
theorem dksX3_init_8 : cX3_init.data.toList.drop 186 = dktX3_init_8 := dk_seg dksX3_init_7 22 rfl rfl
theorem dksX3_init_9 : cX3_init.data.toList.drop 208 = dktX3_init_9 := dk_seg dksX3_init_8 22 rfl rfl
theorem dksX3_init_10 : cX3_init.data.toList.drop 232 = dktX3_init_10 := dk_seg dksX3_init_9 24 rfl rfl
theorem dksX3_init_11 : cX3_init.data.toList.drop 256 = dktX3_init_11 := dk_seg dksX3_init_10 24 rfl rfl
theorem dksX3_init_12 : cX3_init.data.toList.drop 278 = dktX3_init_12 := dk_seg dksX3_init_11 22 rfl rfl
theorem dksX3_init_13 : cX3_init.data.toList.drop 301 = dktX3_init_13 := dk_seg dksX3_init_12 23 rfl rfl
theorem dksX3_init_14 : cX3_init.data.toList.drop 323 = dktX3_init_14 := dk_seg dksX3_init_13 22 rfl rfl
theorem dX3_init_0 : decode cX3_init 0 = .ok (.aload_n 0, 1) := dk_42 (dk_at dksX3_init_0 0 rfl rfl)
theorem dX3_init_1 : decode cX3_init 1 = .ok (.invokespecial 1, 3) := dk_183 0 1 (dk_at dksX3_init_0 1 rfl rfl)
theorem dX3_init_4 : decode cX3_init 4 = .ok (.aload_n 0, 1) := dk_42 (dk_at dksX3_init_0 4 rfl rfl)
theorem dX3_init_5 : decode cX3_init 5 = .ok (.bipush 24, 2) := dk_16 24 (dk_at dksX3_init_0 5 rfl rfl)
theorem dX3_init_7 : decode cX3_init 7 = .ok (.newarray .int, 2) := dk_188_10 (dk_at dksX3_init_0 7 rfl rfl)
theorem dX3_init_9 : decode cX3_init 9 = .ok (.putfield 7, 3) := dk_181 0 7 (dk_at dksX3_init_0 9 rfl rfl)
theorem dX3_init_12 : decode cX3_init 12 = .ok (.aload_n 0, 1) := dk_42 (dk_at dksX3_init_0 12 rfl rfl)
theorem dX3_init_13 : decode cX3_init 13 = .ok (.sipush 600, 3) := dk_17 2 88 (dk_at dksX3_init_0 13 rfl rfl)
theorem dX3_init_16 : decode cX3_init 16 = .ok (.newarray .int, 2) := dk_188_10 (dk_at dksX3_init_0 16 rfl rfl)
theorem dX3_init_18 : decode cX3_init 18 = .ok (.putfield 13, 3) := dk_181 0 13 (dk_at dksX3_init_0 18 rfl rfl)
theorem dX3_init_21 : decode cX3_init 21 = .ok (.aload_n 0, 1) := dk_42 (dk_at dksX3_init_0 21 rfl rfl)
theorem dX3_init_22 : decode cX3_init 22 = .ok (.iconst (-1), 1) := dk_2 (dk_at dksX3_init_0 22 rfl rfl)
theorem dX3_init_23 : decode cX3_init 23 = .ok (.putfield 16, 3) := dk_181 0 16 (dk_at dksX3_init_1 0 rfl rfl)
theorem dX3_init_26 : decode cX3_init 26 = .ok (.aload_n 0, 1) := dk_42 (dk_at dksX3_init_1 3 rfl rfl)
theorem dX3_init_27 : decode cX3_init 27 = .ok (.bipush 8, 2) := dk_16 8 (dk_at dksX3_init_1 4 rfl rfl)
theorem dX3_init_29 : decode cX3_init 29 = .ok (.newarray .int, 2) := dk_188_10 (dk_at dksX3_init_1 6 rfl rfl)
theorem dX3_init_31 : decode cX3_init 31 = .ok (.putfield 20, 3) := dk_181 0 20 (dk_at dksX3_init_1 8 rfl rfl)
theorem dX3_init_34 : decode cX3_init 34 = .ok (.aload_n 0, 1) := dk_42 (dk_at dksX3_init_1 11 rfl rfl)
theorem dX3_init_35 : decode cX3_init 35 = .ok (.bipush 8, 2) := dk_16 8 (dk_at dksX3_init_1 12 rfl rfl)
theorem dX3_init_37 : decode cX3_init 37 = .ok (.newarray .int, 2) := dk_188_10 (dk_at dksX3_init_1 14 rfl rfl)
theorem dX3_init_39 : decode cX3_init 39 = .ok (.putfield 23, 3) := dk_181 0 23 (dk_at dksX3_init_1 16 rfl rfl)
theorem dX3_init_42 : decode cX3_init 42 = .ok (.aload_n 0, 1) := dk_42 (dk_at dksX3_init_1 19 rfl rfl)
theorem dX3_init_43 : decode cX3_init 43 = .ok (.sipush 600, 3) := dk_17 2 88 (dk_at dksX3_init_1 20 rfl rfl)
theorem dX3_init_46 : decode cX3_init 46 = .ok (.newarray .int, 2) := dk_188_10 (dk_at dksX3_init_2 0 rfl rfl)
theorem dX3_init_48 : decode cX3_init 48 = .ok (.putfield 26, 3) := dk_181 0 26 (dk_at dksX3_init_2 2 rfl rfl)
theorem dX3_init_51 : decode cX3_init 51 = .ok (.aload_n 0, 1) := dk_42 (dk_at dksX3_init_2 5 rfl rfl)
theorem dX3_init_52 : decode cX3_init 52 = .ok (.sipush 600, 3) := dk_17 2 88 (dk_at dksX3_init_2 6 rfl rfl)
theorem dX3_init_55 : decode cX3_init 55 = .ok (.newarray .int, 2) := dk_188_10 (dk_at dksX3_init_2 9 rfl rfl)
theorem dX3_init_57 : decode cX3_init 57 = .ok (.putfield 29, 3) := dk_181 0 29 (dk_at dksX3_init_2 11 rfl rfl)
theorem dX3_init_60 : decode cX3_init 60 = .ok (.aload_n 0, 1) := dk_42 (dk_at dksX3_init_2 14 rfl rfl)
theorem dX3_init_61 : decode cX3_init 61 = .ok (.bipush 9, 2) := dk_16 9 (dk_at dksX3_init_2 15 rfl rfl)
theorem dX3_init_63 : decode cX3_init 63 = .ok (.newarray .int, 2) := dk_188_10 (dk_at dksX3_init_2 17 rfl rfl)
theorem dX3_init_65 : decode cX3_init 65 = .ok (.putfield 32, 3) := dk_181 0 32 (dk_at dksX3_init_2 19 rfl rfl)
theorem dX3_init_68 : decode cX3_init 68 = .ok (.aload_n 0, 1) := dk_42 (dk_at dksX3_init_2 22 rfl rfl)
theorem dX3_init_69 : decode cX3_init 69 = .ok (.bipush 8, 2) := dk_16 8 (dk_at dksX3_init_3 0 rfl rfl)
theorem dX3_init_71 : decode cX3_init 71 = .ok (.newarray .int, 2) := dk_188_10 (dk_at dksX3_init_3 2 rfl rfl)
theorem dX3_init_73 : decode cX3_init 73 = .ok (.putfield 35, 3) := dk_181 0 35 (dk_at dksX3_init_3 4 rfl rfl)
theorem dX3_init_76 : decode cX3_init 76 = .ok (.aload_n 0, 1) := dk_42 (dk_at dksX3_init_3 7 rfl rfl)
theorem dX3_init_77 : decode cX3_init 77 = .ok (.bipush 8, 2) := dk_16 8 (dk_at dksX3_init_3 8 rfl rfl)
theorem dX3_init_79 : decode cX3_init 79 = .ok (.newarray .int, 2) := dk_188_10 (dk_at dksX3_init_3 10 rfl rfl)
theorem dX3_init_81 : decode cX3_init 81 = .ok (.putfield 38, 3) := dk_181 0 38 (dk_at dksX3_init_3 12 rfl rfl)
theorem dX3_init_84 : decode cX3_init 84 = .ok (.aload_n 0, 1) := dk_42 (dk_at dksX3_init_3 15 rfl rfl)
theorem dX3_init_85 : decode cX3_init 85 = .ok (.sipush 600, 3) := dk_17 2 88 (dk_at dksX3_init_3 16 rfl rfl)
theorem dX3_init_88 : decode cX3_init 88 = .ok (.newarray .int, 2) := dk_188_10 (dk_at dksX3_init_3 19 rfl rfl)
theorem dX3_init_90 : decode cX3_init 90 = .ok (.putfield 41, 3) := dk_181 0 41 (dk_at dksX3_init_3 21 rfl rfl)
theorem dX3_init_93 : decode cX3_init 93 = .ok (.aload_n 0, 1) := dk_42 (dk_at dksX3_init_4 0 rfl rfl)
theorem dX3_init_94 : decode cX3_init 94 = .ok (.sipush 600, 3) := dk_17 2 88 (dk_at dksX3_init_4 1 rfl rfl)
theorem dX3_init_97 : decode cX3_init 97 = .ok (.newarray .int, 2) := dk_188_10 (dk_at dksX3_init_4 4 rfl rfl)
theorem dX3_init_99 : decode cX3_init 99 = .ok (.putfield 44, 3) := dk_181 0 44 (dk_at dksX3_init_4 6 rfl rfl)
theorem dX3_init_102 : decode cX3_init 102 = .ok (.aload_n 0, 1) := dk_42 (dk_at dksX3_init_4 9 rfl rfl)
theorem dX3_init_103 : decode cX3_init 103 = .ok (.bipush 9, 2) := dk_16 9 (dk_at dksX3_init_4 10 rfl rfl)
theorem dX3_init_105 : decode cX3_init 105 = .ok (.newarray .int, 2) := dk_188_10 (dk_at dksX3_init_4 12 rfl rfl)
theorem dX3_init_107 : decode cX3_init 107 = .ok (.putfield 47, 3) := dk_181 0 47 (dk_at dksX3_init_4 14 rfl rfl)
theorem dX3_init_110 : decode cX3_init 110 = .ok (.aload_n 0, 1) := dk_42 (dk_at dksX3_init_4 17 rfl rfl)
theorem dX3_init_111 : decode cX3_init 111 = .ok (.sipush 300, 3) := dk_17 1 44 (dk_at dksX3_init_4 18 rfl rfl)
theorem dX3_init_114 : decode cX3_init 114 = .ok (.newarray .int, 2) := dk_188_10 (dk_at dksX3_init_4 21 rfl rfl)
theorem dX3_init_116 : decode cX3_init 116 = .ok (.putfield 50, 3) := dk_181 0 50 (dk_at dksX3_init_5 0 rfl rfl)
theorem dX3_init_119 : decode cX3_init 119 = .ok (.aload_n 0, 1) := dk_42 (dk_at dksX3_init_5 3 rfl rfl)
theorem dX3_init_120 : decode cX3_init 120 = .ok (.sipush 300, 3) := dk_17 1 44 (dk_at dksX3_init_5 4 rfl rfl)
theorem dX3_init_123 : decode cX3_init 123 = .ok (.newarray .int, 2) := dk_188_10 (dk_at dksX3_init_5 7 rfl rfl)
theorem dX3_init_125 : decode cX3_init 125 = .ok (.putfield 53, 3) := dk_181 0 53 (dk_at dksX3_init_5 9 rfl rfl)
theorem dX3_init_128 : decode cX3_init 128 = .ok (.aload_n 0, 1) := dk_42 (dk_at dksX3_init_5 12 rfl rfl)
theorem dX3_init_129 : decode cX3_init 129 = .ok (.iconst 1, 1) := dk_4 (dk_at dksX3_init_5 13 rfl rfl)
theorem dX3_init_130 : decode cX3_init 130 = .ok (.putfield 56, 3) := dk_181 0 56 (dk_at dksX3_init_5 14 rfl rfl)
theorem dX3_init_133 : decode cX3_init 133 = .ok (.aload_n 0, 1) := dk_42 (dk_at dksX3_init_5 17 rfl rfl)
theorem dX3_init_134 : decode cX3_init 134 = .ok (.iconst 5, 1) := dk_8 (dk_at dksX3_init_5 18 rfl rfl)
theorem dX3_init_135 : decode cX3_init 135 = .ok (.newarray .int, 2) := dk_188_10 (dk_at dksX3_init_5 19 rfl rfl)
theorem dX3_init_137 : decode cX3_init 137 = .ok (.putfield 59, 3) := dk_181 0 59 (dk_at dksX3_init_5 21 rfl rfl)
theorem dX3_init_140 : decode cX3_init 140 = .ok (.aload_n 0, 1) := dk_42 (dk_at dksX3_init_6 0 rfl rfl)
theorem dX3_init_141 : decode cX3_init 141 = .ok (.sipush 200, 3) := dk_17 0 200 (dk_at dksX3_init_6 1 rfl rfl)
theorem dX3_init_144 : decode cX3_init 144 = .ok (.newarray .int, 2) := dk_188_10 (dk_at dksX3_init_6 4 rfl rfl)
theorem dX3_init_146 : decode cX3_init 146 = .ok (.putfield 62, 3) := dk_181 0 62 (dk_at dksX3_init_6 6 rfl rfl)
theorem dX3_init_149 : decode cX3_init 149 = .ok (.aload_n 0, 1) := dk_42 (dk_at dksX3_init_6 9 rfl rfl)
theorem dX3_init_150 : decode cX3_init 150 = .ok (.sipush 301, 3) := dk_17 1 45 (dk_at dksX3_init_6 10 rfl rfl)
theorem dX3_init_153 : decode cX3_init 153 = .ok (.newarray .int, 2) := dk_188_10 (dk_at dksX3_init_6 13 rfl rfl)
theorem dX3_init_155 : decode cX3_init 155 = .ok (.putfield 65, 3) := dk_181 0 65 (dk_at dksX3_init_6 15 rfl rfl)
theorem dX3_init_158 : decode cX3_init 158 = .ok (.aload_n 0, 1) := dk_42 (dk_at dksX3_init_6 18 rfl rfl)
theorem dX3_init_159 : decode cX3_init 159 = .ok (.sipush 301, 3) := dk_17 1 45 (dk_at dksX3_init_6 19 rfl rfl)
theorem dX3_init_162 : decode cX3_init 162 = .ok (.newarray .int, 2) := dk_188_10 (dk_at dksX3_init_6 22 rfl rfl)
theorem dX3_init_164 : decode cX3_init 164 = .ok (.putfield 68, 3) := dk_181 0 68 (dk_at dksX3_init_7 0 rfl rfl)
theorem dX3_init_167 : decode cX3_init 167 = .ok (.aload_n 0, 1) := dk_42 (dk_at dksX3_init_7 3 rfl rfl)
theorem dX3_init_168 : decode cX3_init 168 = .ok (.sipush 300, 3) := dk_17 1 44 (dk_at dksX3_init_7 4 rfl rfl)
theorem dX3_init_171 : decode cX3_init 171 = .ok (.newarray .int, 2) := dk_188_10 (dk_at dksX3_init_7 7 rfl rfl)
theorem dX3_init_173 : decode cX3_init 173 = .ok (.putfield 71, 3) := dk_181 0 71 (dk_at dksX3_init_7 9 rfl rfl)
theorem dX3_init_176 : decode cX3_init 176 = .ok (.aload_n 0, 1) := dk_42 (dk_at dksX3_init_7 12 rfl rfl)
theorem dX3_init_177 : decode cX3_init 177 = .ok (.sipush 300, 3) := dk_17 1 44 (dk_at dksX3_init_7 13 rfl rfl)
theorem dX3_init_180 : decode cX3_init 180 = .ok (.newarray .int, 2) := dk_188_10 (dk_at dksX3_init_7 16 rfl rfl)
theorem dX3_init_182 : decode cX3_init 182 = .ok (.putfield 74, 3) := dk_181 0 74 (dk_at dksX3_init_7 18 rfl rfl)
theorem dX3_init_185 : decode cX3_init 185 = .ok (.aload_n 0, 1) := dk_42 (dk_at dksX3_init_7 21 rfl rfl)
theorem dX3_init_186 : decode cX3_init 186 = .ok (.sipush 300, 3) := dk_17 1 44 (dk_at dksX3_init_8 0 rfl rfl)
theorem dX3_init_189 : decode cX3_init 189 = .ok (.newarray .int, 2) := dk_188_10 (dk_at dksX3_init_8 3 rfl rfl)
theorem dX3_init_191 : decode cX3_init 191 = .ok (.putfield 77, 3) := dk_181 0 77 (dk_at dksX3_init_8 5 rfl rfl)
theorem dX3_init_194 : decode cX3_init 194 = .ok (.aload_n 0, 1) := dk_42 (dk_at dksX3_init_8 8 rfl rfl)
theorem dX3_init_195 : decode cX3_init 195 = .ok (.sipush 9600, 3) := dk_17 37 128 (dk_at dksX3_init_8 9 rfl rfl)
theorem dX3_init_198 : decode cX3_init 198 = .ok (.newarray .boolean, 2) := dk_188_4 (dk_at dksX3_init_8 12 rfl rfl)
theorem dX3_init_200 : decode cX3_init 200 = .ok (.putfield 80, 3) := dk_181 0 80 (dk_at dksX3_init_8 14 rfl rfl)
theorem dX3_init_203 : decode cX3_init 203 = .ok (.aload_n 0, 1) := dk_42 (dk_at dksX3_init_8 17 rfl rfl)
theorem dX3_init_204 : decode cX3_init 204 = .ok (.bipush 6, 2) := dk_16 6 (dk_at dksX3_init_8 18 rfl rfl)
theorem dX3_init_206 : decode cX3_init 206 = .ok (.newarray .int, 2) := dk_188_10 (dk_at dksX3_init_8 20 rfl rfl)
theorem dX3_init_208 : decode cX3_init 208 = .ok (.putfield 84, 3) := dk_181 0 84 (dk_at dksX3_init_9 0 rfl rfl)
theorem dX3_init_211 : decode cX3_init 211 = .ok (.aload_n 0, 1) := dk_42 (dk_at dksX3_init_9 3 rfl rfl)
theorem dX3_init_212 : decode cX3_init 212 = .ok (.bipush 6, 2) := dk_16 6 (dk_at dksX3_init_9 4 rfl rfl)
theorem dX3_init_214 : decode cX3_init 214 = .ok (.newarray .int, 2) := dk_188_10 (dk_at dksX3_init_9 6 rfl rfl)
theorem dX3_init_216 : decode cX3_init 216 = .ok (.putfield 87, 3) := dk_181 0 87 (dk_at dksX3_init_9 8 rfl rfl)
theorem dX3_init_219 : decode cX3_init 219 = .ok (.aload_n 0, 1) := dk_42 (dk_at dksX3_init_9 11 rfl rfl)
theorem dX3_init_220 : decode cX3_init 220 = .ok (.bipush 6, 2) := dk_16 6 (dk_at dksX3_init_9 12 rfl rfl)
theorem dX3_init_222 : decode cX3_init 222 = .ok (.newarray .int, 2) := dk_188_10 (dk_at dksX3_init_9 14 rfl rfl)
theorem dX3_init_224 : decode cX3_init 224 = .ok (.putfield 90, 3) := dk_181 0 90 (dk_at dksX3_init_9 16 rfl rfl)
theorem dX3_init_227 : decode cX3_init 227 = .ok (.aload_n 0, 1) := dk_42 (dk_at dksX3_init_9 19 rfl rfl)
theorem dX3_init_228 : decode cX3_init 228 = .ok (.bipush 9, 2) := dk_16 9 (dk_at dksX3_init_9 20 rfl rfl)
theorem dX3_init_230 : decode cX3_init 230 = .ok (.newarray .int, 2) := dk_188_10 (dk_at dksX3_init_9 22 rfl rfl)
theorem dX3_init_232 : decode cX3_init 232 = .ok (.putfield 93, 3) := dk_181 0 93 (dk_at dksX3_init_10 0 rfl rfl)
theorem dX3_init_235 : decode cX3_init 235 = .ok (.aload_n 0, 1) := dk_42 (dk_at dksX3_init_10 3 rfl rfl)
theorem dX3_init_236 : decode cX3_init 236 = .ok (.bipush 6, 2) := dk_16 6 (dk_at dksX3_init_10 4 rfl rfl)
theorem dX3_init_238 : decode cX3_init 238 = .ok (.newarray .boolean, 2) := dk_188_4 (dk_at dksX3_init_10 6 rfl rfl)
theorem dX3_init_240 : decode cX3_init 240 = .ok (.putfield 96, 3) := dk_181 0 96 (dk_at dksX3_init_10 8 rfl rfl)
theorem dX3_init_243 : decode cX3_init 243 = .ok (.aload_n 0, 1) := dk_42 (dk_at dksX3_init_10 11 rfl rfl)
theorem dX3_init_244 : decode cX3_init 244 = .ok (.iconst 1, 1) := dk_4 (dk_at dksX3_init_10 12 rfl rfl)
theorem dX3_init_245 : decode cX3_init 245 = .ok (.putfield 99, 3) := dk_181 0 99 (dk_at dksX3_init_10 13 rfl rfl)
theorem dX3_init_248 : decode cX3_init 248 = .ok (.aload_n 0, 1) := dk_42 (dk_at dksX3_init_10 16 rfl rfl)
theorem dX3_init_249 : decode cX3_init 249 = .ok (.bipush 10, 2) := dk_16 10 (dk_at dksX3_init_10 17 rfl rfl)
theorem dX3_init_251 : decode cX3_init 251 = .ok (.putfield 102, 3) := dk_181 0 102 (dk_at dksX3_init_10 19 rfl rfl)
theorem dX3_init_254 : decode cX3_init 254 = .ok (.aload_n 0, 1) := dk_42 (dk_at dksX3_init_10 22 rfl rfl)
theorem dX3_init_255 : decode cX3_init 255 = .ok (.iconst 1, 1) := dk_4 (dk_at dksX3_init_10 23 rfl rfl)
theorem dX3_init_256 : decode cX3_init 256 = .ok (.putfield 105, 3) := dk_181 0 105 (dk_at dksX3_init_11 0 rfl rfl)
theorem dX3_init_259 : decode cX3_init 259 = .ok (.aload_n 0, 1) := dk_42 (dk_at dksX3_init_11 3 rfl rfl)
theorem dX3_init_260 : decode cX3_init 260 = .ok (.bipush 60, 2) := dk_16 60 (dk_at dksX3_init_11 4 rfl rfl)
theorem dX3_init_262 : decode cX3_init 262 = .ok (.putfield 108, 3) := dk_181 0 108 (dk_at dksX3_init_11 6 rfl rfl)
theorem dX3_init_265 : decode cX3_init 265 = .ok (.aload_n 0, 1) := dk_42 (dk_at dksX3_init_11 9 rfl rfl)
theorem dX3_init_266 : decode cX3_init 266 = .ok (.bipush 10, 2) := dk_16 10 (dk_at dksX3_init_11 10 rfl rfl)
theorem dX3_init_268 : decode cX3_init 268 = .ok (.newarray .int, 2) := dk_188_10 (dk_at dksX3_init_11 12 rfl rfl)
theorem dX3_init_270 : decode cX3_init 270 = .ok (.putfield 111, 3) := dk_181 0 111 (dk_at dksX3_init_11 14 rfl rfl)
theorem dX3_init_273 : decode cX3_init 273 = .ok (.aload_n 0, 1) := dk_42 (dk_at dksX3_init_11 17 rfl rfl)
theorem dX3_init_274 : decode cX3_init 274 = .ok (.bipush 10, 2) := dk_16 10 (dk_at dksX3_init_11 18 rfl rfl)
theorem dX3_init_276 : decode cX3_init 276 = .ok (.newarray .int, 2) := dk_188_10 (dk_at dksX3_init_11 20 rfl rfl)
theorem dX3_init_278 : decode cX3_init 278 = .ok (.putfield 114, 3) := dk_181 0 114 (dk_at dksX3_init_12 0 rfl rfl)
theorem dX3_init_281 : decode cX3_init 281 = .ok (.aload_n 0, 1) := dk_42 (dk_at dksX3_init_12 3 rfl rfl)
theorem dX3_init_282 : decode cX3_init 282 = .ok (.sipush 1024, 3) := dk_17 4 0 (dk_at dksX3_init_12 4 rfl rfl)
theorem dX3_init_285 : decode cX3_init 285 = .ok (.newarray .int, 2) := dk_188_10 (dk_at dksX3_init_12 7 rfl rfl)
theorem dX3_init_287 : decode cX3_init 287 = .ok (.putfield 117, 3) := dk_181 0 117 (dk_at dksX3_init_12 9 rfl rfl)
theorem dX3_init_290 : decode cX3_init 290 = .ok (.aload_n 0, 1) := dk_42 (dk_at dksX3_init_12 12 rfl rfl)
theorem dX3_init_291 : decode cX3_init 291 = .ok (.bipush 10, 2) := dk_16 10 (dk_at dksX3_init_12 13 rfl rfl)
theorem dX3_init_293 : decode cX3_init 293 = .ok (.newarray .int, 2) := dk_188_10 (dk_at dksX3_init_12 15 rfl rfl)
theorem dX3_init_295 : decode cX3_init 295 = .ok (.putfield 120, 3) := dk_181 0 120 (dk_at dksX3_init_12 17 rfl rfl)
theorem dX3_init_298 : decode cX3_init 298 = .ok (.aload_n 0, 1) := dk_42 (dk_at dksX3_init_12 20 rfl rfl)
theorem dX3_init_299 : decode cX3_init 299 = .ok (.bipush 10, 2) := dk_16 10 (dk_at dksX3_init_12 21 rfl rfl)
theorem dX3_init_301 : decode cX3_init 301 = .ok (.newarray .int, 2) := dk_188_10 (dk_at dksX3_init_13 0 rfl rfl)
theorem dX3_init_303 : decode cX3_init 303 = .ok (.putfield 123, 3) := dk_181 0 123 (dk_at dksX3_init_13 2 rfl rfl)
theorem dX3_init_306 : decode cX3_init 306 = .ok (.iconst 0, 1) := dk_3 (dk_at dksX3_init_13 5 rfl rfl)
theorem dX3_init_307 : decode cX3_init 307 = .ok (.istore_n 1, 1) := dk_60 (dk_at dksX3_init_13 6 rfl rfl)
theorem dX3_init_308 : decode cX3_init 308 = .ok (.iload_n 1, 1) := dk_27 (dk_at dksX3_init_13 7 rfl rfl)
theorem dX3_init_309 : decode cX3_init 309 = .ok (.bipush 6, 2) := dk_16 6 (dk_at dksX3_init_13 8 rfl rfl)
theorem dX3_init_311 : decode cX3_init 311 = .ok (.if_icmp .ge 31, 3) := dk_162 0 31 (dk_at dksX3_init_13 10 rfl rfl)
theorem dX3_init_314 : decode cX3_init 314 = .ok (.aload_n 0, 1) := dk_42 (dk_at dksX3_init_13 13 rfl rfl)
theorem dX3_init_315 : decode cX3_init 315 = .ok (.getfield 84, 3) := dk_180 0 84 (dk_at dksX3_init_13 14 rfl rfl)
theorem dX3_init_318 : decode cX3_init 318 = .ok (.iload_n 1, 1) := dk_27 (dk_at dksX3_init_13 17 rfl rfl)
theorem dX3_init_319 : decode cX3_init 319 = .ok (.bipush 10, 2) := dk_16 10 (dk_at dksX3_init_13 18 rfl rfl)
theorem dX3_init_321 : decode cX3_init 321 = .ok (.iastore, 1) := dk_79 (dk_at dksX3_init_13 20 rfl rfl)
theorem dX3_init_322 : decode cX3_init 322 = .ok (.aload_n 0, 1) := dk_42 (dk_at dksX3_init_13 21 rfl rfl)
theorem dX3_init_323 : decode cX3_init 323 = .ok (.getfield 90, 3) := dk_180 0 90 (dk_at dksX3_init_14 0 rfl rfl)
theorem dX3_init_326 : decode cX3_init 326 = .ok (.iload_n 1, 1) := dk_27 (dk_at dksX3_init_14 3 rfl rfl)
theorem dX3_init_327 : decode cX3_init 327 = .ok (.iconst 1, 1) := dk_4 (dk_at dksX3_init_14 4 rfl rfl)
theorem dX3_init_328 : decode cX3_init 328 = .ok (.iastore, 1) := dk_79 (dk_at dksX3_init_14 5 rfl rfl)
theorem dX3_init_329 : decode cX3_init 329 = .ok (.aload_n 0, 1) := dk_42 (dk_at dksX3_init_14 6 rfl rfl)
theorem dX3_init_330 : decode cX3_init 330 = .ok (.getfield 96, 3) := dk_180 0 96 (dk_at dksX3_init_14 7 rfl rfl)
theorem dX3_init_333 : decode cX3_init 333 = .ok (.iload_n 1, 1) := dk_27 (dk_at dksX3_init_14 10 rfl rfl)
theorem dX3_init_334 : decode cX3_init 334 = .ok (.iconst 1, 1) := dk_4 (dk_at dksX3_init_14 11 rfl rfl)
theorem dX3_init_335 : decode cX3_init 335 = .ok (.bastore, 1) := dk_84 (dk_at dksX3_init_14 12 rfl rfl)
theorem dX3_init_336 : decode cX3_init 336 = .ok (.iinc 1 1, 3) := dk_132 1 1 (dk_at dksX3_init_14 13 rfl rfl)
theorem dX3_init_339 : decode cX3_init 339 = .ok (.goto (-31), 3) := dk_167 255 225 (dk_at dksX3_init_14 16 rfl rfl)
theorem dX3_init_342 : decode cX3_init 342 = .ok (.return_, 1) := dk_177 (dk_at dksX3_init_14 19 rfl rfl)
abbrev cX3_net : ByteArray := prog_16_method_2_code
def yX3_net : MethodName := ⟨RX3, "net", "(II)Z"⟩
def dkwX3_net_1 : List UInt8 := [180, 0, 7, 27, 28, 79, 4, 172]
abbrev dktX3_net_1 : List UInt8 := dkwX3_net_1 ++ []
def dkwX3_net_0 : List UInt8 := [27, 155, 0, 19, 27, 16, 24, 162, 0, 13, 28, 155, 0, 9, 28, 18, 126, 161, 0, 5, 3, 172, 42]
abbrev dktX3_net_0 : List UInt8 := dkwX3_net_0 ++ dktX3_net_1
theorem dksX3_net_0 : cX3_net.data.toList.drop 0 = dktX3_net_0 := by decide +kernel
theorem dksX3_net_1 : cX3_net.data.toList.drop 23 = dktX3_net_1 := dk_seg dksX3_net_0 23 rfl rfl
theorem dX3_net_0 : decode cX3_net 0 = .ok (.iload_n 1, 1) := dk_27 (dk_at dksX3_net_0 0 rfl rfl)
theorem dX3_net_1 : decode cX3_net 1 = .ok (.ifCond .lt 19, 3) := dk_155 0 19 (dk_at dksX3_net_0 1 rfl rfl)
theorem dX3_net_4 : decode cX3_net 4 = .ok (.iload_n 1, 1) := dk_27 (dk_at dksX3_net_0 4 rfl rfl)
theorem dX3_net_5 : decode cX3_net 5 = .ok (.bipush 24, 2) := dk_16 24 (dk_at dksX3_net_0 5 rfl rfl)
theorem dX3_net_7 : decode cX3_net 7 = .ok (.if_icmp .ge 13, 3) := dk_162 0 13 (dk_at dksX3_net_0 7 rfl rfl)
theorem dX3_net_10 : decode cX3_net 10 = .ok (.iload_n 2, 1) := dk_28 (dk_at dksX3_net_0 10 rfl rfl)
theorem dX3_net_11 : decode cX3_net 11 = .ok (.ifCond .lt 9, 3) := dk_155 0 9 (dk_at dksX3_net_0 11 rfl rfl)
theorem dX3_net_14 : decode cX3_net 14 = .ok (.iload_n 2, 1) := dk_28 (dk_at dksX3_net_0 14 rfl rfl)
theorem dX3_net_15 : decode cX3_net 15 = .ok (.ldc 126, 2) := dk_18 126 (dk_at dksX3_net_0 15 rfl rfl)
theorem dX3_net_17 : decode cX3_net 17 = .ok (.if_icmp .lt 5, 3) := dk_161 0 5 (dk_at dksX3_net_0 17 rfl rfl)
theorem dX3_net_20 : decode cX3_net 20 = .ok (.iconst 0, 1) := dk_3 (dk_at dksX3_net_0 20 rfl rfl)
theorem dX3_net_21 : decode cX3_net 21 = .ok (.ireturn, 1) := dk_172 (dk_at dksX3_net_0 21 rfl rfl)
theorem dX3_net_22 : decode cX3_net 22 = .ok (.aload_n 0, 1) := dk_42 (dk_at dksX3_net_0 22 rfl rfl)
theorem dX3_net_23 : decode cX3_net 23 = .ok (.getfield 7, 3) := dk_180 0 7 (dk_at dksX3_net_1 0 rfl rfl)
theorem dX3_net_26 : decode cX3_net 26 = .ok (.iload_n 1, 1) := dk_27 (dk_at dksX3_net_1 3 rfl rfl)
theorem dX3_net_27 : decode cX3_net 27 = .ok (.iload_n 2, 1) := dk_28 (dk_at dksX3_net_1 4 rfl rfl)
theorem dX3_net_28 : decode cX3_net 28 = .ok (.iastore, 1) := dk_79 (dk_at dksX3_net_1 5 rfl rfl)
theorem dX3_net_29 : decode cX3_net 29 = .ok (.iconst 1, 1) := dk_4 (dk_at dksX3_net_1 6 rfl rfl)
theorem dX3_net_30 : decode cX3_net 30 = .ok (.ireturn, 1) := dk_172 (dk_at dksX3_net_1 7 rfl rfl)
abbrev cX3_centre : ByteArray := prog_16_method_6_code
def yX3_centre : MethodName := ⟨RX3, "centre", "(I)I"⟩
def dkwX3_centre_2 : List UInt8 := [167, 0, 4, 2, 172]
abbrev dktX3_centre_2 : List UInt8 := dkwX3_centre_2 ++ []
def dkwX3_centre_1 : List UInt8 := [167, 0, 28, 27, 4, 160, 0, 10, 42, 180, 0, 141, 167, 0, 16, 27, 5, 160, 0, 10, 42, 180, 0, 131]
abbrev dktX3_centre_1 : List UInt8 := dkwX3_centre_1 ++ dktX3_centre_2
def dkwX3_centre_0 : List UInt8 := [42, 182, 0, 144, 42, 180, 0, 131, 156, 0, 7, 2, 167, 0, 39, 27, 154, 0, 10, 42, 180, 0, 138]
abbrev dktX3_centre_0 : List UInt8 := dkwX3_centre_0 ++ dktX3_centre_1
theorem dksX3_centre_0 : cX3_centre.data.toList.drop 0 = dktX3_centre_0 := by decide +kernel
theorem dksX3_centre_1 : cX3_centre.data.toList.drop 23 = dktX3_centre_1 := dk_seg dksX3_centre_0 23 rfl rfl
theorem dksX3_centre_2 : cX3_centre.data.toList.drop 47 = dktX3_centre_2 := dk_seg dksX3_centre_1 24 rfl rfl
theorem dX3_centre_0 : decode cX3_centre 0 = .ok (.aload_n 0, 1) := dk_42 (dk_at dksX3_centre_0 0 rfl rfl)
theorem dX3_centre_1 : decode cX3_centre 1 = .ok (.invokevirtual 144, 3) := dk_182 0 144 (dk_at dksX3_centre_0 1 rfl rfl)
theorem dX3_centre_4 : decode cX3_centre 4 = .ok (.aload_n 0, 1) := dk_42 (dk_at dksX3_centre_0 4 rfl rfl)
theorem dX3_centre_5 : decode cX3_centre 5 = .ok (.getfield 131, 3) := dk_180 0 131 (dk_at dksX3_centre_0 5 rfl rfl)
theorem dX3_centre_8 : decode cX3_centre 8 = .ok (.ifCond .ge 7, 3) := dk_156 0 7 (dk_at dksX3_centre_0 8 rfl rfl)
theorem dX3_centre_11 : decode cX3_centre 11 = .ok (.iconst (-1), 1) := dk_2 (dk_at dksX3_centre_0 11 rfl rfl)
theorem dX3_centre_12 : decode cX3_centre 12 = .ok (.goto 39, 3) := dk_167 0 39 (dk_at dksX3_centre_0 12 rfl rfl)
theorem dX3_centre_15 : decode cX3_centre 15 = .ok (.iload_n 1, 1) := dk_27 (dk_at dksX3_centre_0 15 rfl rfl)
theorem dX3_centre_16 : decode cX3_centre 16 = .ok (.ifCond .ne 10, 3) := dk_154 0 10 (dk_at dksX3_centre_0 16 rfl rfl)
theorem dX3_centre_19 : decode cX3_centre 19 = .ok (.aload_n 0, 1) := dk_42 (dk_at dksX3_centre_0 19 rfl rfl)
theorem dX3_centre_20 : decode cX3_centre 20 = .ok (.getfield 138, 3) := dk_180 0 138 (dk_at dksX3_centre_0 20 rfl rfl)
theorem dX3_centre_23 : decode cX3_centre 23 = .ok (.goto 28, 3) := dk_167 0 28 (dk_at dksX3_centre_1 0 rfl rfl)
theorem dX3_centre_26 : decode cX3_centre 26 = .ok (.iload_n 1, 1) := dk_27 (dk_at dksX3_centre_1 3 rfl rfl)
theorem dX3_centre_27 : decode cX3_centre 27 = .ok (.iconst 1, 1) := dk_4 (dk_at dksX3_centre_1 4 rfl rfl)
theorem dX3_centre_28 : decode cX3_centre 28 = .ok (.if_icmp .ne 10, 3) := dk_160 0 10 (dk_at dksX3_centre_1 5 rfl rfl)
theorem dX3_centre_31 : decode cX3_centre 31 = .ok (.aload_n 0, 1) := dk_42 (dk_at dksX3_centre_1 8 rfl rfl)
theorem dX3_centre_32 : decode cX3_centre 32 = .ok (.getfield 141, 3) := dk_180 0 141 (dk_at dksX3_centre_1 9 rfl rfl)
theorem dX3_centre_35 : decode cX3_centre 35 = .ok (.goto 16, 3) := dk_167 0 16 (dk_at dksX3_centre_1 12 rfl rfl)
theorem dX3_centre_38 : decode cX3_centre 38 = .ok (.iload_n 1, 1) := dk_27 (dk_at dksX3_centre_1 15 rfl rfl)
theorem dX3_centre_39 : decode cX3_centre 39 = .ok (.iconst 2, 1) := dk_5 (dk_at dksX3_centre_1 16 rfl rfl)
theorem dX3_centre_40 : decode cX3_centre 40 = .ok (.if_icmp .ne 10, 3) := dk_160 0 10 (dk_at dksX3_centre_1 17 rfl rfl)
theorem dX3_centre_43 : decode cX3_centre 43 = .ok (.aload_n 0, 1) := dk_42 (dk_at dksX3_centre_1 20 rfl rfl)
theorem dX3_centre_44 : decode cX3_centre 44 = .ok (.getfield 131, 3) := dk_180 0 131 (dk_at dksX3_centre_1 21 rfl rfl)
theorem dX3_centre_47 : decode cX3_centre 47 = .ok (.goto 4, 3) := dk_167 0 4 (dk_at dksX3_centre_2 0 rfl rfl)
theorem dX3_centre_50 : decode cX3_centre 50 = .ok (.iconst (-1), 1) := dk_2 (dk_at dksX3_centre_2 3 rfl rfl)
theorem dX3_centre_51 : decode cX3_centre 51 = .ok (.ireturn, 1) := dk_172 (dk_at dksX3_centre_2 4 rfl rfl)
abbrev cX3_seekCentre : ByteArray := prog_16_method_5_code
def yX3_seekCentre : MethodName := ⟨RX3, "seekCentre", "()V"⟩
def dkwX3_seekCentre_3 : List UInt8 := [132, 2, 1, 167, 255, 200, 132, 1, 1, 167, 255, 186, 177]
abbrev dktX3_seekCentre_3 : List UInt8 := dkwX3_seekCentre_3 ++ []
def dkwX3_seekCentre_2 : List UInt8 := [89, 180, 0, 131, 4, 96, 181, 0, 131, 42, 27, 181, 0, 138, 42, 28, 181, 0, 141, 167, 255, 212]
abbrev dktX3_seekCentre_2 : List UInt8 := dkwX3_seekCentre_2 ++ dktX3_seekCentre_3
def dkwX3_seekCentre_1 : List UInt8 := [180, 0, 131, 16, 11, 162, 0, 41, 42, 27, 28, 42, 180, 0, 131, 4, 96, 182, 0, 134, 153, 0, 26, 42]
abbrev dktX3_seekCentre_1 : List UInt8 := dkwX3_seekCentre_1 ++ dktX3_seekCentre_2
def dkwX3_seekCentre_0 : List UInt8 := [42, 2, 181, 0, 131, 3, 60, 27, 16, 24, 162, 0, 70, 3, 61, 28, 16, 24, 162, 0, 56, 42]
abbrev dktX3_seekCentre_0 : List UInt8 := dkwX3_seekCentre_0 ++ dktX3_seekCentre_1
theorem dksX3_seekCentre_0 : cX3_seekCentre.data.toList.drop 0 = dktX3_seekCentre_0 := by decide +kernel
theorem dksX3_seekCentre_1 : cX3_seekCentre.data.toList.drop 22 = dktX3_seekCentre_1 := dk_seg dksX3_seekCentre_0 22 rfl rfl
theorem dksX3_seekCentre_2 : cX3_seekCentre.data.toList.drop 46 = dktX3_seekCentre_2 := dk_seg dksX3_seekCentre_1 24 rfl rfl
theorem dksX3_seekCentre_3 : cX3_seekCentre.data.toList.drop 68 = dktX3_seekCentre_3 := dk_seg dksX3_seekCentre_2 22 rfl rfl
theorem dX3_seekCentre_0 : decode cX3_seekCentre 0 = .ok (.aload_n 0, 1) := dk_42 (dk_at dksX3_seekCentre_0 0 rfl rfl)
theorem dX3_seekCentre_1 : decode cX3_seekCentre 1 = .ok (.iconst (-1), 1) := dk_2 (dk_at dksX3_seekCentre_0 1 rfl rfl)
theorem dX3_seekCentre_2 : decode cX3_seekCentre 2 = .ok (.putfield 131, 3) := dk_181 0 131 (dk_at dksX3_seekCentre_0 2 rfl rfl)
theorem dX3_seekCentre_5 : decode cX3_seekCentre 5 = .ok (.iconst 0, 1) := dk_3 (dk_at dksX3_seekCentre_0 5 rfl rfl)
theorem dX3_seekCentre_6 : decode cX3_seekCentre 6 = .ok (.istore_n 1, 1) := dk_60 (dk_at dksX3_seekCentre_0 6 rfl rfl)
theorem dX3_seekCentre_7 : decode cX3_seekCentre 7 = .ok (.iload_n 1, 1) := dk_27 (dk_at dksX3_seekCentre_0 7 rfl rfl)
theorem dX3_seekCentre_8 : decode cX3_seekCentre 8 = .ok (.bipush 24, 2) := dk_16 24 (dk_at dksX3_seekCentre_0 8 rfl rfl)
theorem dX3_seekCentre_10 : decode cX3_seekCentre 10 = .ok (.if_icmp .ge 70, 3) := dk_162 0 70 (dk_at dksX3_seekCentre_0 10 rfl rfl)
theorem dX3_seekCentre_13 : decode cX3_seekCentre 13 = .ok (.iconst 0, 1) := dk_3 (dk_at dksX3_seekCentre_0 13 rfl rfl)
theorem dX3_seekCentre_14 : decode cX3_seekCentre 14 = .ok (.istore_n 2, 1) := dk_61 (dk_at dksX3_seekCentre_0 14 rfl rfl)
theorem dX3_seekCentre_15 : decode cX3_seekCentre 15 = .ok (.iload_n 2, 1) := dk_28 (dk_at dksX3_seekCentre_0 15 rfl rfl)
theorem dX3_seekCentre_16 : decode cX3_seekCentre 16 = .ok (.bipush 24, 2) := dk_16 24 (dk_at dksX3_seekCentre_0 16 rfl rfl)
theorem dX3_seekCentre_18 : decode cX3_seekCentre 18 = .ok (.if_icmp .ge 56, 3) := dk_162 0 56 (dk_at dksX3_seekCentre_0 18 rfl rfl)
theorem dX3_seekCentre_21 : decode cX3_seekCentre 21 = .ok (.aload_n 0, 1) := dk_42 (dk_at dksX3_seekCentre_0 21 rfl rfl)
theorem dX3_seekCentre_22 : decode cX3_seekCentre 22 = .ok (.getfield 131, 3) := dk_180 0 131 (dk_at dksX3_seekCentre_1 0 rfl rfl)
theorem dX3_seekCentre_25 : decode cX3_seekCentre 25 = .ok (.bipush 11, 2) := dk_16 11 (dk_at dksX3_seekCentre_1 3 rfl rfl)
theorem dX3_seekCentre_27 : decode cX3_seekCentre 27 = .ok (.if_icmp .ge 41, 3) := dk_162 0 41 (dk_at dksX3_seekCentre_1 5 rfl rfl)
theorem dX3_seekCentre_30 : decode cX3_seekCentre 30 = .ok (.aload_n 0, 1) := dk_42 (dk_at dksX3_seekCentre_1 8 rfl rfl)
theorem dX3_seekCentre_31 : decode cX3_seekCentre 31 = .ok (.iload_n 1, 1) := dk_27 (dk_at dksX3_seekCentre_1 9 rfl rfl)
theorem dX3_seekCentre_32 : decode cX3_seekCentre 32 = .ok (.iload_n 2, 1) := dk_28 (dk_at dksX3_seekCentre_1 10 rfl rfl)
theorem dX3_seekCentre_33 : decode cX3_seekCentre 33 = .ok (.aload_n 0, 1) := dk_42 (dk_at dksX3_seekCentre_1 11 rfl rfl)
theorem dX3_seekCentre_34 : decode cX3_seekCentre 34 = .ok (.getfield 131, 3) := dk_180 0 131 (dk_at dksX3_seekCentre_1 12 rfl rfl)
theorem dX3_seekCentre_37 : decode cX3_seekCentre 37 = .ok (.iconst 1, 1) := dk_4 (dk_at dksX3_seekCentre_1 15 rfl rfl)
theorem dX3_seekCentre_38 : decode cX3_seekCentre 38 = .ok (.iadd, 1) := dk_96 (dk_at dksX3_seekCentre_1 16 rfl rfl)
theorem dX3_seekCentre_39 : decode cX3_seekCentre 39 = .ok (.invokevirtual 134, 3) := dk_182 0 134 (dk_at dksX3_seekCentre_1 17 rfl rfl)
theorem dX3_seekCentre_42 : decode cX3_seekCentre 42 = .ok (.ifCond .eq 26, 3) := dk_153 0 26 (dk_at dksX3_seekCentre_1 20 rfl rfl)
theorem dX3_seekCentre_45 : decode cX3_seekCentre 45 = .ok (.aload_n 0, 1) := dk_42 (dk_at dksX3_seekCentre_1 23 rfl rfl)
theorem dX3_seekCentre_46 : decode cX3_seekCentre 46 = .ok (.dup, 1) := dk_89 (dk_at dksX3_seekCentre_2 0 rfl rfl)
theorem dX3_seekCentre_47 : decode cX3_seekCentre 47 = .ok (.getfield 131, 3) := dk_180 0 131 (dk_at dksX3_seekCentre_2 1 rfl rfl)
theorem dX3_seekCentre_50 : decode cX3_seekCentre 50 = .ok (.iconst 1, 1) := dk_4 (dk_at dksX3_seekCentre_2 4 rfl rfl)
theorem dX3_seekCentre_51 : decode cX3_seekCentre 51 = .ok (.iadd, 1) := dk_96 (dk_at dksX3_seekCentre_2 5 rfl rfl)
theorem dX3_seekCentre_52 : decode cX3_seekCentre 52 = .ok (.putfield 131, 3) := dk_181 0 131 (dk_at dksX3_seekCentre_2 6 rfl rfl)
theorem dX3_seekCentre_55 : decode cX3_seekCentre 55 = .ok (.aload_n 0, 1) := dk_42 (dk_at dksX3_seekCentre_2 9 rfl rfl)
theorem dX3_seekCentre_56 : decode cX3_seekCentre 56 = .ok (.iload_n 1, 1) := dk_27 (dk_at dksX3_seekCentre_2 10 rfl rfl)
theorem dX3_seekCentre_57 : decode cX3_seekCentre 57 = .ok (.putfield 138, 3) := dk_181 0 138 (dk_at dksX3_seekCentre_2 11 rfl rfl)
theorem dX3_seekCentre_60 : decode cX3_seekCentre 60 = .ok (.aload_n 0, 1) := dk_42 (dk_at dksX3_seekCentre_2 14 rfl rfl)
theorem dX3_seekCentre_61 : decode cX3_seekCentre 61 = .ok (.iload_n 2, 1) := dk_28 (dk_at dksX3_seekCentre_2 15 rfl rfl)
theorem dX3_seekCentre_62 : decode cX3_seekCentre 62 = .ok (.putfield 141, 3) := dk_181 0 141 (dk_at dksX3_seekCentre_2 16 rfl rfl)
theorem dX3_seekCentre_65 : decode cX3_seekCentre 65 = .ok (.goto (-44), 3) := dk_167 255 212 (dk_at dksX3_seekCentre_2 19 rfl rfl)
theorem dX3_seekCentre_68 : decode cX3_seekCentre 68 = .ok (.iinc 2 1, 3) := dk_132 2 1 (dk_at dksX3_seekCentre_3 0 rfl rfl)
theorem dX3_seekCentre_71 : decode cX3_seekCentre 71 = .ok (.goto (-56), 3) := dk_167 255 200 (dk_at dksX3_seekCentre_3 3 rfl rfl)
theorem dX3_seekCentre_74 : decode cX3_seekCentre 74 = .ok (.iinc 1 1, 3) := dk_132 1 1 (dk_at dksX3_seekCentre_3 6 rfl rfl)
theorem dX3_seekCentre_77 : decode cX3_seekCentre 77 = .ok (.goto (-70), 3) := dk_167 255 186 (dk_at dksX3_seekCentre_3 9 rfl rfl)
theorem dX3_seekCentre_80 : decode cX3_seekCentre 80 = .ok (.return_, 1) := dk_177 (dk_at dksX3_seekCentre_3 12 rfl rfl)
abbrev cX3_fits : ByteArray := prog_16_method_4_code
def yX3_fits : MethodName := ⟨RX3, "fits", "(III)Z"⟩
def dkwX3_fits_3 : List UInt8 := [54, 4, 132, 6, 1, 167, 255, 203, 132, 5, 1, 167, 255, 182, 21, 4, 172]
abbrev dktX3_fits_3 : List UInt8 := dkwX3_fits_3 ++ []
def dkwX3_fits_2 : List UInt8 := [163, 0, 18, 42, 27, 21, 5, 96, 28, 21, 6, 96, 182, 0, 127, 153, 0, 7, 4, 167, 0, 4, 3]
abbrev dktX3_fits_2 : List UInt8 := dkwX3_fits_2 ++ dktX3_fits_3
def dkwX3_fits_1 : List UInt8 := [29, 163, 0, 53, 21, 4, 153, 0, 48, 21, 5, 21, 5, 104, 21, 6, 21, 6, 104, 96, 29, 29, 104]
abbrev dktX3_fits_1 : List UInt8 := dkwX3_fits_1 ++ dktX3_fits_2
def dkwX3_fits_0 : List UInt8 := [4, 54, 4, 29, 116, 54, 5, 21, 5, 29, 163, 0, 74, 21, 4, 153, 0, 69, 29, 116, 54, 6, 21, 6]
abbrev dktX3_fits_0 : List UInt8 := dkwX3_fits_0 ++ dktX3_fits_1
theorem dksX3_fits_0 : cX3_fits.data.toList.drop 0 = dktX3_fits_0 := by decide +kernel
theorem dksX3_fits_1 : cX3_fits.data.toList.drop 24 = dktX3_fits_1 := dk_seg dksX3_fits_0 24 rfl rfl
theorem dksX3_fits_2 : cX3_fits.data.toList.drop 47 = dktX3_fits_2 := dk_seg dksX3_fits_1 23 rfl rfl
theorem dksX3_fits_3 : cX3_fits.data.toList.drop 70 = dktX3_fits_3 := dk_seg dksX3_fits_2 23 rfl rfl
theorem dX3_fits_0 : decode cX3_fits 0 = .ok (.iconst 1, 1) := dk_4 (dk_at dksX3_fits_0 0 rfl rfl)
theorem dX3_fits_1 : decode cX3_fits 1 = .ok (.istore 4, 2) := dk_54 4 (dk_at dksX3_fits_0 1 rfl rfl)
theorem dX3_fits_3 : decode cX3_fits 3 = .ok (.iload_n 3, 1) := dk_29 (dk_at dksX3_fits_0 3 rfl rfl)
theorem dX3_fits_4 : decode cX3_fits 4 = .ok (.ineg, 1) := dk_116 (dk_at dksX3_fits_0 4 rfl rfl)
theorem dX3_fits_5 : decode cX3_fits 5 = .ok (.istore 5, 2) := dk_54 5 (dk_at dksX3_fits_0 5 rfl rfl)
theorem dX3_fits_7 : decode cX3_fits 7 = .ok (.iload 5, 2) := dk_21 5 (dk_at dksX3_fits_0 7 rfl rfl)
theorem dX3_fits_9 : decode cX3_fits 9 = .ok (.iload_n 3, 1) := dk_29 (dk_at dksX3_fits_0 9 rfl rfl)
theorem dX3_fits_10 : decode cX3_fits 10 = .ok (.if_icmp .gt 74, 3) := dk_163 0 74 (dk_at dksX3_fits_0 10 rfl rfl)
theorem dX3_fits_13 : decode cX3_fits 13 = .ok (.iload 4, 2) := dk_21 4 (dk_at dksX3_fits_0 13 rfl rfl)
theorem dX3_fits_15 : decode cX3_fits 15 = .ok (.ifCond .eq 69, 3) := dk_153 0 69 (dk_at dksX3_fits_0 15 rfl rfl)
theorem dX3_fits_18 : decode cX3_fits 18 = .ok (.iload_n 3, 1) := dk_29 (dk_at dksX3_fits_0 18 rfl rfl)
theorem dX3_fits_19 : decode cX3_fits 19 = .ok (.ineg, 1) := dk_116 (dk_at dksX3_fits_0 19 rfl rfl)
theorem dX3_fits_20 : decode cX3_fits 20 = .ok (.istore 6, 2) := dk_54 6 (dk_at dksX3_fits_0 20 rfl rfl)
theorem dX3_fits_22 : decode cX3_fits 22 = .ok (.iload 6, 2) := dk_21 6 (dk_at dksX3_fits_0 22 rfl rfl)
theorem dX3_fits_24 : decode cX3_fits 24 = .ok (.iload_n 3, 1) := dk_29 (dk_at dksX3_fits_1 0 rfl rfl)
theorem dX3_fits_25 : decode cX3_fits 25 = .ok (.if_icmp .gt 53, 3) := dk_163 0 53 (dk_at dksX3_fits_1 1 rfl rfl)
theorem dX3_fits_28 : decode cX3_fits 28 = .ok (.iload 4, 2) := dk_21 4 (dk_at dksX3_fits_1 4 rfl rfl)
theorem dX3_fits_30 : decode cX3_fits 30 = .ok (.ifCond .eq 48, 3) := dk_153 0 48 (dk_at dksX3_fits_1 6 rfl rfl)
theorem dX3_fits_33 : decode cX3_fits 33 = .ok (.iload 5, 2) := dk_21 5 (dk_at dksX3_fits_1 9 rfl rfl)
theorem dX3_fits_35 : decode cX3_fits 35 = .ok (.iload 5, 2) := dk_21 5 (dk_at dksX3_fits_1 11 rfl rfl)
theorem dX3_fits_37 : decode cX3_fits 37 = .ok (.imul, 1) := dk_104 (dk_at dksX3_fits_1 13 rfl rfl)
theorem dX3_fits_38 : decode cX3_fits 38 = .ok (.iload 6, 2) := dk_21 6 (dk_at dksX3_fits_1 14 rfl rfl)
theorem dX3_fits_40 : decode cX3_fits 40 = .ok (.iload 6, 2) := dk_21 6 (dk_at dksX3_fits_1 16 rfl rfl)
theorem dX3_fits_42 : decode cX3_fits 42 = .ok (.imul, 1) := dk_104 (dk_at dksX3_fits_1 18 rfl rfl)
theorem dX3_fits_43 : decode cX3_fits 43 = .ok (.iadd, 1) := dk_96 (dk_at dksX3_fits_1 19 rfl rfl)
theorem dX3_fits_44 : decode cX3_fits 44 = .ok (.iload_n 3, 1) := dk_29 (dk_at dksX3_fits_1 20 rfl rfl)
theorem dX3_fits_45 : decode cX3_fits 45 = .ok (.iload_n 3, 1) := dk_29 (dk_at dksX3_fits_1 21 rfl rfl)
theorem dX3_fits_46 : decode cX3_fits 46 = .ok (.imul, 1) := dk_104 (dk_at dksX3_fits_1 22 rfl rfl)
theorem dX3_fits_47 : decode cX3_fits 47 = .ok (.if_icmp .gt 18, 3) := dk_163 0 18 (dk_at dksX3_fits_2 0 rfl rfl)
theorem dX3_fits_50 : decode cX3_fits 50 = .ok (.aload_n 0, 1) := dk_42 (dk_at dksX3_fits_2 3 rfl rfl)
theorem dX3_fits_51 : decode cX3_fits 51 = .ok (.iload_n 1, 1) := dk_27 (dk_at dksX3_fits_2 4 rfl rfl)
theorem dX3_fits_52 : decode cX3_fits 52 = .ok (.iload 5, 2) := dk_21 5 (dk_at dksX3_fits_2 5 rfl rfl)
theorem dX3_fits_54 : decode cX3_fits 54 = .ok (.iadd, 1) := dk_96 (dk_at dksX3_fits_2 7 rfl rfl)
theorem dX3_fits_55 : decode cX3_fits 55 = .ok (.iload_n 2, 1) := dk_28 (dk_at dksX3_fits_2 8 rfl rfl)
theorem dX3_fits_56 : decode cX3_fits 56 = .ok (.iload 6, 2) := dk_21 6 (dk_at dksX3_fits_2 9 rfl rfl)
theorem dX3_fits_58 : decode cX3_fits 58 = .ok (.iadd, 1) := dk_96 (dk_at dksX3_fits_2 11 rfl rfl)
theorem dX3_fits_59 : decode cX3_fits 59 = .ok (.invokevirtual 127, 3) := dk_182 0 127 (dk_at dksX3_fits_2 12 rfl rfl)
theorem dX3_fits_62 : decode cX3_fits 62 = .ok (.ifCond .eq 7, 3) := dk_153 0 7 (dk_at dksX3_fits_2 15 rfl rfl)
theorem dX3_fits_65 : decode cX3_fits 65 = .ok (.iconst 1, 1) := dk_4 (dk_at dksX3_fits_2 18 rfl rfl)
theorem dX3_fits_66 : decode cX3_fits 66 = .ok (.goto 4, 3) := dk_167 0 4 (dk_at dksX3_fits_2 19 rfl rfl)
theorem dX3_fits_69 : decode cX3_fits 69 = .ok (.iconst 0, 1) := dk_3 (dk_at dksX3_fits_2 22 rfl rfl)
theorem dX3_fits_70 : decode cX3_fits 70 = .ok (.istore 4, 2) := dk_54 4 (dk_at dksX3_fits_3 0 rfl rfl)
theorem dX3_fits_72 : decode cX3_fits 72 = .ok (.iinc 6 1, 3) := dk_132 6 1 (dk_at dksX3_fits_3 2 rfl rfl)
theorem dX3_fits_75 : decode cX3_fits 75 = .ok (.goto (-53), 3) := dk_167 255 203 (dk_at dksX3_fits_3 5 rfl rfl)
theorem dX3_fits_78 : decode cX3_fits 78 = .ok (.iinc 5 1, 3) := dk_132 5 1 (dk_at dksX3_fits_3 8 rfl rfl)
theorem dX3_fits_81 : decode cX3_fits 81 = .ok (.goto (-74), 3) := dk_167 255 182 (dk_at dksX3_fits_3 11 rfl rfl)
theorem dX3_fits_84 : decode cX3_fits 84 = .ok (.iload 4, 2) := dk_21 4 (dk_at dksX3_fits_3 14 rfl rfl)
theorem dX3_fits_86 : decode cX3_fits 86 = .ok (.ireturn, 1) := dk_172 (dk_at dksX3_fits_3 16 rfl rfl)
abbrev cX3_isIn : ByteArray := prog_16_method_3_code
def yX3_isIn : MethodName := ⟨RX3, "isIn", "(II)Z"⟩
def dkwX3_isIn_1 : List UInt8 := [27, 46, 28, 122, 4, 126, 4, 160, 0, 7, 4, 167, 0, 4, 3, 172]
abbrev dktX3_isIn_1 : List UInt8 := dkwX3_isIn_1 ++ []
def dkwX3_isIn_0 : List UInt8 := [27, 155, 0, 37, 27, 16, 24, 162, 0, 31, 28, 155, 0, 27, 28, 16, 24, 162, 0, 21, 42, 180, 0, 7]
abbrev dktX3_isIn_0 : List UInt8 := dkwX3_isIn_0 ++ dktX3_isIn_1
theorem dksX3_isIn_0 : cX3_isIn.data.toList.drop 0 = dktX3_isIn_0 := by decide +kernel
theorem dksX3_isIn_1 : cX3_isIn.data.toList.drop 24 = dktX3_isIn_1 := dk_seg dksX3_isIn_0 24 rfl rfl
theorem dX3_isIn_0 : decode cX3_isIn 0 = .ok (.iload_n 1, 1) := dk_27 (dk_at dksX3_isIn_0 0 rfl rfl)
theorem dX3_isIn_1 : decode cX3_isIn 1 = .ok (.ifCond .lt 37, 3) := dk_155 0 37 (dk_at dksX3_isIn_0 1 rfl rfl)
theorem dX3_isIn_4 : decode cX3_isIn 4 = .ok (.iload_n 1, 1) := dk_27 (dk_at dksX3_isIn_0 4 rfl rfl)
theorem dX3_isIn_5 : decode cX3_isIn 5 = .ok (.bipush 24, 2) := dk_16 24 (dk_at dksX3_isIn_0 5 rfl rfl)
theorem dX3_isIn_7 : decode cX3_isIn 7 = .ok (.if_icmp .ge 31, 3) := dk_162 0 31 (dk_at dksX3_isIn_0 7 rfl rfl)
theorem dX3_isIn_10 : decode cX3_isIn 10 = .ok (.iload_n 2, 1) := dk_28 (dk_at dksX3_isIn_0 10 rfl rfl)
theorem dX3_isIn_11 : decode cX3_isIn 11 = .ok (.ifCond .lt 27, 3) := dk_155 0 27 (dk_at dksX3_isIn_0 11 rfl rfl)
theorem dX3_isIn_14 : decode cX3_isIn 14 = .ok (.iload_n 2, 1) := dk_28 (dk_at dksX3_isIn_0 14 rfl rfl)
theorem dX3_isIn_15 : decode cX3_isIn 15 = .ok (.bipush 24, 2) := dk_16 24 (dk_at dksX3_isIn_0 15 rfl rfl)
theorem dX3_isIn_17 : decode cX3_isIn 17 = .ok (.if_icmp .ge 21, 3) := dk_162 0 21 (dk_at dksX3_isIn_0 17 rfl rfl)
theorem dX3_isIn_20 : decode cX3_isIn 20 = .ok (.aload_n 0, 1) := dk_42 (dk_at dksX3_isIn_0 20 rfl rfl)
theorem dX3_isIn_21 : decode cX3_isIn 21 = .ok (.getfield 7, 3) := dk_180 0 7 (dk_at dksX3_isIn_0 21 rfl rfl)
theorem dX3_isIn_24 : decode cX3_isIn 24 = .ok (.iload_n 1, 1) := dk_27 (dk_at dksX3_isIn_1 0 rfl rfl)
theorem dX3_isIn_25 : decode cX3_isIn 25 = .ok (.iaload, 1) := dk_46 (dk_at dksX3_isIn_1 1 rfl rfl)
theorem dX3_isIn_26 : decode cX3_isIn 26 = .ok (.iload_n 2, 1) := dk_28 (dk_at dksX3_isIn_1 2 rfl rfl)
theorem dX3_isIn_27 : decode cX3_isIn 27 = .ok (.ishr, 1) := dk_122 (dk_at dksX3_isIn_1 3 rfl rfl)
theorem dX3_isIn_28 : decode cX3_isIn 28 = .ok (.iconst 1, 1) := dk_4 (dk_at dksX3_isIn_1 4 rfl rfl)
theorem dX3_isIn_29 : decode cX3_isIn 29 = .ok (.iand, 1) := dk_126 (dk_at dksX3_isIn_1 5 rfl rfl)
theorem dX3_isIn_30 : decode cX3_isIn 30 = .ok (.iconst 1, 1) := dk_4 (dk_at dksX3_isIn_1 6 rfl rfl)
theorem dX3_isIn_31 : decode cX3_isIn 31 = .ok (.if_icmp .ne 7, 3) := dk_160 0 7 (dk_at dksX3_isIn_1 7 rfl rfl)
theorem dX3_isIn_34 : decode cX3_isIn 34 = .ok (.iconst 1, 1) := dk_4 (dk_at dksX3_isIn_1 10 rfl rfl)
theorem dX3_isIn_35 : decode cX3_isIn 35 = .ok (.goto 4, 3) := dk_167 0 4 (dk_at dksX3_isIn_1 11 rfl rfl)
theorem dX3_isIn_38 : decode cX3_isIn 38 = .ok (.iconst 0, 1) := dk_3 (dk_at dksX3_isIn_1 14 rfl rfl)
theorem dX3_isIn_39 : decode cX3_isIn 39 = .ok (.ireturn, 1) := dk_172 (dk_at dksX3_isIn_1 15 rfl rfl)
abbrev cX3_full : ByteArray := prog_16_method_7_code
def yX3_full : MethodName := ⟨RX3, "full", "(II)I"⟩
def dkwX3_full_2 : List UInt8 := [161, 0, 7, 3, 167, 0, 18, 29, 29, 104, 27, 27, 104, 100, 16, 22, 104, 16, 7, 28, 104, 108, 172]
abbrev dktX3_full_2 : List UInt8 := dkwX3_full_2 ++ []
def dkwX3_full_1 : List UInt8 := [163, 0, 10, 42, 180, 0, 131, 156, 0, 5, 2, 172, 16, 10, 42, 180, 0, 131, 104, 8, 96, 62, 27, 29]
abbrev dktX3_full_1 : List UInt8 := dkwX3_full_1 ++ dktX3_full_2
def dkwX3_full_0 : List UInt8 := [42, 182, 0, 144, 27, 4, 161, 0, 28, 27, 17, 0, 200, 163, 0, 21, 28, 4, 161, 0, 16, 28, 16, 50]
abbrev dktX3_full_0 : List UInt8 := dkwX3_full_0 ++ dktX3_full_1
theorem dksX3_full_0 : cX3_full.data.toList.drop 0 = dktX3_full_0 := by decide +kernel
theorem dksX3_full_1 : cX3_full.data.toList.drop 24 = dktX3_full_1 := dk_seg dksX3_full_0 24 rfl rfl
theorem dksX3_full_2 : cX3_full.data.toList.drop 48 = dktX3_full_2 := dk_seg dksX3_full_1 24 rfl rfl
theorem dX3_full_0 : decode cX3_full 0 = .ok (.aload_n 0, 1) := dk_42 (dk_at dksX3_full_0 0 rfl rfl)
theorem dX3_full_1 : decode cX3_full 1 = .ok (.invokevirtual 144, 3) := dk_182 0 144 (dk_at dksX3_full_0 1 rfl rfl)
theorem dX3_full_4 : decode cX3_full 4 = .ok (.iload_n 1, 1) := dk_27 (dk_at dksX3_full_0 4 rfl rfl)
theorem dX3_full_5 : decode cX3_full 5 = .ok (.iconst 1, 1) := dk_4 (dk_at dksX3_full_0 5 rfl rfl)
theorem dX3_full_6 : decode cX3_full 6 = .ok (.if_icmp .lt 28, 3) := dk_161 0 28 (dk_at dksX3_full_0 6 rfl rfl)
theorem dX3_full_9 : decode cX3_full 9 = .ok (.iload_n 1, 1) := dk_27 (dk_at dksX3_full_0 9 rfl rfl)
theorem dX3_full_10 : decode cX3_full 10 = .ok (.sipush 200, 3) := dk_17 0 200 (dk_at dksX3_full_0 10 rfl rfl)
theorem dX3_full_13 : decode cX3_full 13 = .ok (.if_icmp .gt 21, 3) := dk_163 0 21 (dk_at dksX3_full_0 13 rfl rfl)
theorem dX3_full_16 : decode cX3_full 16 = .ok (.iload_n 2, 1) := dk_28 (dk_at dksX3_full_0 16 rfl rfl)
theorem dX3_full_17 : decode cX3_full 17 = .ok (.iconst 1, 1) := dk_4 (dk_at dksX3_full_0 17 rfl rfl)
theorem dX3_full_18 : decode cX3_full 18 = .ok (.if_icmp .lt 16, 3) := dk_161 0 16 (dk_at dksX3_full_0 18 rfl rfl)
theorem dX3_full_21 : decode cX3_full 21 = .ok (.iload_n 2, 1) := dk_28 (dk_at dksX3_full_0 21 rfl rfl)
theorem dX3_full_22 : decode cX3_full 22 = .ok (.bipush 50, 2) := dk_16 50 (dk_at dksX3_full_0 22 rfl rfl)
theorem dX3_full_24 : decode cX3_full 24 = .ok (.if_icmp .gt 10, 3) := dk_163 0 10 (dk_at dksX3_full_1 0 rfl rfl)
theorem dX3_full_27 : decode cX3_full 27 = .ok (.aload_n 0, 1) := dk_42 (dk_at dksX3_full_1 3 rfl rfl)
theorem dX3_full_28 : decode cX3_full 28 = .ok (.getfield 131, 3) := dk_180 0 131 (dk_at dksX3_full_1 4 rfl rfl)
theorem dX3_full_31 : decode cX3_full 31 = .ok (.ifCond .ge 5, 3) := dk_156 0 5 (dk_at dksX3_full_1 7 rfl rfl)
theorem dX3_full_34 : decode cX3_full 34 = .ok (.iconst (-1), 1) := dk_2 (dk_at dksX3_full_1 10 rfl rfl)
theorem dX3_full_35 : decode cX3_full 35 = .ok (.ireturn, 1) := dk_172 (dk_at dksX3_full_1 11 rfl rfl)
theorem dX3_full_36 : decode cX3_full 36 = .ok (.bipush 10, 2) := dk_16 10 (dk_at dksX3_full_1 12 rfl rfl)
theorem dX3_full_38 : decode cX3_full 38 = .ok (.aload_n 0, 1) := dk_42 (dk_at dksX3_full_1 14 rfl rfl)
theorem dX3_full_39 : decode cX3_full 39 = .ok (.getfield 131, 3) := dk_180 0 131 (dk_at dksX3_full_1 15 rfl rfl)
theorem dX3_full_42 : decode cX3_full 42 = .ok (.imul, 1) := dk_104 (dk_at dksX3_full_1 18 rfl rfl)
theorem dX3_full_43 : decode cX3_full 43 = .ok (.iconst 5, 1) := dk_8 (dk_at dksX3_full_1 19 rfl rfl)
theorem dX3_full_44 : decode cX3_full 44 = .ok (.iadd, 1) := dk_96 (dk_at dksX3_full_1 20 rfl rfl)
theorem dX3_full_45 : decode cX3_full 45 = .ok (.istore_n 3, 1) := dk_62 (dk_at dksX3_full_1 21 rfl rfl)
theorem dX3_full_46 : decode cX3_full 46 = .ok (.iload_n 1, 1) := dk_27 (dk_at dksX3_full_1 22 rfl rfl)
theorem dX3_full_47 : decode cX3_full 47 = .ok (.iload_n 3, 1) := dk_29 (dk_at dksX3_full_1 23 rfl rfl)
theorem dX3_full_48 : decode cX3_full 48 = .ok (.if_icmp .lt 7, 3) := dk_161 0 7 (dk_at dksX3_full_2 0 rfl rfl)
theorem dX3_full_51 : decode cX3_full 51 = .ok (.iconst 0, 1) := dk_3 (dk_at dksX3_full_2 3 rfl rfl)
theorem dX3_full_52 : decode cX3_full 52 = .ok (.goto 18, 3) := dk_167 0 18 (dk_at dksX3_full_2 4 rfl rfl)
theorem dX3_full_55 : decode cX3_full 55 = .ok (.iload_n 3, 1) := dk_29 (dk_at dksX3_full_2 7 rfl rfl)
theorem dX3_full_56 : decode cX3_full 56 = .ok (.iload_n 3, 1) := dk_29 (dk_at dksX3_full_2 8 rfl rfl)
theorem dX3_full_57 : decode cX3_full 57 = .ok (.imul, 1) := dk_104 (dk_at dksX3_full_2 9 rfl rfl)
theorem dX3_full_58 : decode cX3_full 58 = .ok (.iload_n 1, 1) := dk_27 (dk_at dksX3_full_2 10 rfl rfl)
theorem dX3_full_59 : decode cX3_full 59 = .ok (.iload_n 1, 1) := dk_27 (dk_at dksX3_full_2 11 rfl rfl)
theorem dX3_full_60 : decode cX3_full 60 = .ok (.imul, 1) := dk_104 (dk_at dksX3_full_2 12 rfl rfl)
theorem dX3_full_61 : decode cX3_full 61 = .ok (.isub, 1) := dk_100 (dk_at dksX3_full_2 13 rfl rfl)
theorem dX3_full_62 : decode cX3_full 62 = .ok (.bipush 22, 2) := dk_16 22 (dk_at dksX3_full_2 14 rfl rfl)
theorem dX3_full_64 : decode cX3_full 64 = .ok (.imul, 1) := dk_104 (dk_at dksX3_full_2 16 rfl rfl)
theorem dX3_full_65 : decode cX3_full 65 = .ok (.bipush 7, 2) := dk_16 7 (dk_at dksX3_full_2 17 rfl rfl)
theorem dX3_full_67 : decode cX3_full 67 = .ok (.iload_n 2, 1) := dk_28 (dk_at dksX3_full_2 19 rfl rfl)
theorem dX3_full_68 : decode cX3_full 68 = .ok (.imul, 1) := dk_104 (dk_at dksX3_full_2 20 rfl rfl)
theorem dX3_full_69 : decode cX3_full 69 = .ok (.idiv, 1) := dk_108 (dk_at dksX3_full_2 21 rfl rfl)
theorem dX3_full_70 : decode cX3_full 70 = .ok (.ireturn, 1) := dk_172 (dk_at dksX3_full_2 22 rfl rfl)
abbrev cX3_feed : ByteArray := prog_16_method_8_code
def yX3_feed : MethodName := ⟨RX3, "feed", "(IIIII)I"⟩
def dkwX3_feed_2 : List UInt8 := [172]
abbrev dktX3_feed_2 : List UInt8 := dkwX3_feed_2 ++ []
def dkwX3_feed_1 : List UInt8 := [182, 0, 150, 42, 29, 182, 0, 150, 42, 21, 4, 182, 0, 150, 42, 21, 5, 182, 0, 150, 42, 180, 0, 147]
abbrev dktX3_feed_1 : List UInt8 := dkwX3_feed_1 ++ dktX3_feed_2
def dkwX3_feed_0 : List UInt8 := [42, 180, 0, 147, 16, 20, 96, 17, 2, 88, 164, 0, 5, 2, 172, 42, 27, 182, 0, 150, 42, 28]
abbrev dktX3_feed_0 : List UInt8 := dkwX3_feed_0 ++ dktX3_feed_1
theorem dksX3_feed_0 : cX3_feed.data.toList.drop 0 = dktX3_feed_0 := by decide +kernel
theorem dksX3_feed_1 : cX3_feed.data.toList.drop 22 = dktX3_feed_1 := dk_seg dksX3_feed_0 22 rfl rfl
theorem dksX3_feed_2 : cX3_feed.data.toList.drop 46 = dktX3_feed_2 := dk_seg dksX3_feed_1 24 rfl rfl
theorem dX3_feed_0 : decode cX3_feed 0 = .ok (.aload_n 0, 1) := dk_42 (dk_at dksX3_feed_0 0 rfl rfl)
theorem dX3_feed_1 : decode cX3_feed 1 = .ok (.getfield 147, 3) := dk_180 0 147 (dk_at dksX3_feed_0 1 rfl rfl)
theorem dX3_feed_4 : decode cX3_feed 4 = .ok (.bipush 20, 2) := dk_16 20 (dk_at dksX3_feed_0 4 rfl rfl)
theorem dX3_feed_6 : decode cX3_feed 6 = .ok (.iadd, 1) := dk_96 (dk_at dksX3_feed_0 6 rfl rfl)
theorem dX3_feed_7 : decode cX3_feed 7 = .ok (.sipush 600, 3) := dk_17 2 88 (dk_at dksX3_feed_0 7 rfl rfl)
theorem dX3_feed_10 : decode cX3_feed 10 = .ok (.if_icmp .le 5, 3) := dk_164 0 5 (dk_at dksX3_feed_0 10 rfl rfl)
theorem dX3_feed_13 : decode cX3_feed 13 = .ok (.iconst (-1), 1) := dk_2 (dk_at dksX3_feed_0 13 rfl rfl)
theorem dX3_feed_14 : decode cX3_feed 14 = .ok (.ireturn, 1) := dk_172 (dk_at dksX3_feed_0 14 rfl rfl)
theorem dX3_feed_15 : decode cX3_feed 15 = .ok (.aload_n 0, 1) := dk_42 (dk_at dksX3_feed_0 15 rfl rfl)
theorem dX3_feed_16 : decode cX3_feed 16 = .ok (.iload_n 1, 1) := dk_27 (dk_at dksX3_feed_0 16 rfl rfl)
theorem dX3_feed_17 : decode cX3_feed 17 = .ok (.invokevirtual 150, 3) := dk_182 0 150 (dk_at dksX3_feed_0 17 rfl rfl)
theorem dX3_feed_20 : decode cX3_feed 20 = .ok (.aload_n 0, 1) := dk_42 (dk_at dksX3_feed_0 20 rfl rfl)
theorem dX3_feed_21 : decode cX3_feed 21 = .ok (.iload_n 2, 1) := dk_28 (dk_at dksX3_feed_0 21 rfl rfl)
theorem dX3_feed_22 : decode cX3_feed 22 = .ok (.invokevirtual 150, 3) := dk_182 0 150 (dk_at dksX3_feed_1 0 rfl rfl)
theorem dX3_feed_25 : decode cX3_feed 25 = .ok (.aload_n 0, 1) := dk_42 (dk_at dksX3_feed_1 3 rfl rfl)
theorem dX3_feed_26 : decode cX3_feed 26 = .ok (.iload_n 3, 1) := dk_29 (dk_at dksX3_feed_1 4 rfl rfl)
theorem dX3_feed_27 : decode cX3_feed 27 = .ok (.invokevirtual 150, 3) := dk_182 0 150 (dk_at dksX3_feed_1 5 rfl rfl)
theorem dX3_feed_30 : decode cX3_feed 30 = .ok (.aload_n 0, 1) := dk_42 (dk_at dksX3_feed_1 8 rfl rfl)
theorem dX3_feed_31 : decode cX3_feed 31 = .ok (.iload 4, 2) := dk_21 4 (dk_at dksX3_feed_1 9 rfl rfl)
theorem dX3_feed_33 : decode cX3_feed 33 = .ok (.invokevirtual 150, 3) := dk_182 0 150 (dk_at dksX3_feed_1 11 rfl rfl)
theorem dX3_feed_36 : decode cX3_feed 36 = .ok (.aload_n 0, 1) := dk_42 (dk_at dksX3_feed_1 14 rfl rfl)
theorem dX3_feed_37 : decode cX3_feed 37 = .ok (.iload 5, 2) := dk_21 5 (dk_at dksX3_feed_1 15 rfl rfl)
theorem dX3_feed_39 : decode cX3_feed 39 = .ok (.invokevirtual 150, 3) := dk_182 0 150 (dk_at dksX3_feed_1 17 rfl rfl)
theorem dX3_feed_42 : decode cX3_feed 42 = .ok (.aload_n 0, 1) := dk_42 (dk_at dksX3_feed_1 20 rfl rfl)
theorem dX3_feed_43 : decode cX3_feed 43 = .ok (.getfield 147, 3) := dk_180 0 147 (dk_at dksX3_feed_1 21 rfl rfl)
theorem dX3_feed_46 : decode cX3_feed 46 = .ok (.ireturn, 1) := dk_172 (dk_at dksX3_feed_2 0 rfl rfl)
abbrev cX3_four : ByteArray := prog_16_method_9_code
def yX3_four : MethodName := ⟨RX3, "four", "(I)V"⟩
def dkwX3_four_1 : List UInt8 := [89, 180, 0, 147, 4, 96, 181, 0, 147, 132, 2, 248, 167, 255, 223, 177]
abbrev dktX3_four_1 : List UInt8 := dkwX3_four_1 ++ []
def dkwX3_four_0 : List UInt8 := [16, 24, 61, 28, 155, 0, 35, 42, 180, 0, 13, 42, 180, 0, 147, 27, 28, 122, 17, 0, 255, 126, 79, 42]
abbrev dktX3_four_0 : List UInt8 := dkwX3_four_0 ++ dktX3_four_1
theorem dksX3_four_0 : cX3_four.data.toList.drop 0 = dktX3_four_0 := by decide +kernel
theorem dksX3_four_1 : cX3_four.data.toList.drop 24 = dktX3_four_1 := dk_seg dksX3_four_0 24 rfl rfl
theorem dX3_four_0 : decode cX3_four 0 = .ok (.bipush 24, 2) := dk_16 24 (dk_at dksX3_four_0 0 rfl rfl)
theorem dX3_four_2 : decode cX3_four 2 = .ok (.istore_n 2, 1) := dk_61 (dk_at dksX3_four_0 2 rfl rfl)
theorem dX3_four_3 : decode cX3_four 3 = .ok (.iload_n 2, 1) := dk_28 (dk_at dksX3_four_0 3 rfl rfl)
theorem dX3_four_4 : decode cX3_four 4 = .ok (.ifCond .lt 35, 3) := dk_155 0 35 (dk_at dksX3_four_0 4 rfl rfl)
theorem dX3_four_7 : decode cX3_four 7 = .ok (.aload_n 0, 1) := dk_42 (dk_at dksX3_four_0 7 rfl rfl)
theorem dX3_four_8 : decode cX3_four 8 = .ok (.getfield 13, 3) := dk_180 0 13 (dk_at dksX3_four_0 8 rfl rfl)
theorem dX3_four_11 : decode cX3_four 11 = .ok (.aload_n 0, 1) := dk_42 (dk_at dksX3_four_0 11 rfl rfl)
theorem dX3_four_12 : decode cX3_four 12 = .ok (.getfield 147, 3) := dk_180 0 147 (dk_at dksX3_four_0 12 rfl rfl)
theorem dX3_four_15 : decode cX3_four 15 = .ok (.iload_n 1, 1) := dk_27 (dk_at dksX3_four_0 15 rfl rfl)
theorem dX3_four_16 : decode cX3_four 16 = .ok (.iload_n 2, 1) := dk_28 (dk_at dksX3_four_0 16 rfl rfl)
theorem dX3_four_17 : decode cX3_four 17 = .ok (.ishr, 1) := dk_122 (dk_at dksX3_four_0 17 rfl rfl)
theorem dX3_four_18 : decode cX3_four 18 = .ok (.sipush 255, 3) := dk_17 0 255 (dk_at dksX3_four_0 18 rfl rfl)
theorem dX3_four_21 : decode cX3_four 21 = .ok (.iand, 1) := dk_126 (dk_at dksX3_four_0 21 rfl rfl)
theorem dX3_four_22 : decode cX3_four 22 = .ok (.iastore, 1) := dk_79 (dk_at dksX3_four_0 22 rfl rfl)
theorem dX3_four_23 : decode cX3_four 23 = .ok (.aload_n 0, 1) := dk_42 (dk_at dksX3_four_0 23 rfl rfl)
theorem dX3_four_24 : decode cX3_four 24 = .ok (.dup, 1) := dk_89 (dk_at dksX3_four_1 0 rfl rfl)
theorem dX3_four_25 : decode cX3_four 25 = .ok (.getfield 147, 3) := dk_180 0 147 (dk_at dksX3_four_1 1 rfl rfl)
theorem dX3_four_28 : decode cX3_four 28 = .ok (.iconst 1, 1) := dk_4 (dk_at dksX3_four_1 4 rfl rfl)
theorem dX3_four_29 : decode cX3_four 29 = .ok (.iadd, 1) := dk_96 (dk_at dksX3_four_1 5 rfl rfl)
theorem dX3_four_30 : decode cX3_four 30 = .ok (.putfield 147, 3) := dk_181 0 147 (dk_at dksX3_four_1 6 rfl rfl)
theorem dX3_four_33 : decode cX3_four 33 = .ok (.iinc 2 (-8), 3) := dk_132 2 248 (dk_at dksX3_four_1 9 rfl rfl)
theorem dX3_four_36 : decode cX3_four 36 = .ok (.goto (-33), 3) := dk_167 255 223 (dk_at dksX3_four_1 12 rfl rfl)
theorem dX3_four_39 : decode cX3_four 39 = .ok (.return_, 1) := dk_177 (dk_at dksX3_four_1 15 rfl rfl)
abbrev cX3_end : ByteArray := prog_16_method_10_code
def yX3_end : MethodName := ⟨RX3, "end", "(I)I"⟩
def dkwX3_end_0 : List UInt8 := [27, 155, 0, 11, 27, 42, 180, 0, 147, 164, 0, 5, 2, 172, 42, 27, 181, 0, 147, 27, 172]
abbrev dktX3_end_0 : List UInt8 := dkwX3_end_0 ++ []
theorem dksX3_end_0 : cX3_end.data.toList.drop 0 = dktX3_end_0 := by decide +kernel
theorem dX3_end_0 : decode cX3_end 0 = .ok (.iload_n 1, 1) := dk_27 (dk_at dksX3_end_0 0 rfl rfl)
theorem dX3_end_1 : decode cX3_end 1 = .ok (.ifCond .lt 11, 3) := dk_155 0 11 (dk_at dksX3_end_0 1 rfl rfl)
theorem dX3_end_4 : decode cX3_end 4 = .ok (.iload_n 1, 1) := dk_27 (dk_at dksX3_end_0 4 rfl rfl)
theorem dX3_end_5 : decode cX3_end 5 = .ok (.aload_n 0, 1) := dk_42 (dk_at dksX3_end_0 5 rfl rfl)
theorem dX3_end_6 : decode cX3_end 6 = .ok (.getfield 147, 3) := dk_180 0 147 (dk_at dksX3_end_0 6 rfl rfl)
theorem dX3_end_9 : decode cX3_end 9 = .ok (.if_icmp .le 5, 3) := dk_164 0 5 (dk_at dksX3_end_0 9 rfl rfl)
theorem dX3_end_12 : decode cX3_end 12 = .ok (.iconst (-1), 1) := dk_2 (dk_at dksX3_end_0 12 rfl rfl)
theorem dX3_end_13 : decode cX3_end 13 = .ok (.ireturn, 1) := dk_172 (dk_at dksX3_end_0 13 rfl rfl)
theorem dX3_end_14 : decode cX3_end 14 = .ok (.aload_n 0, 1) := dk_42 (dk_at dksX3_end_0 14 rfl rfl)
theorem dX3_end_15 : decode cX3_end 15 = .ok (.iload_n 1, 1) := dk_27 (dk_at dksX3_end_0 15 rfl rfl)
theorem dX3_end_16 : decode cX3_end 16 = .ok (.putfield 147, 3) := dk_181 0 147 (dk_at dksX3_end_0 16 rfl rfl)
theorem dX3_end_19 : decode cX3_end 19 = .ok (.iload_n 1, 1) := dk_27 (dk_at dksX3_end_0 19 rfl rfl)
theorem dX3_end_20 : decode cX3_end 20 = .ok (.ireturn, 1) := dk_172 (dk_at dksX3_end_0 20 rfl rfl)
abbrev cX3_grades : ByteArray := prog_16_method_30_code
def yX3_grades : MethodName := ⟨RX3, "grades", "()I"⟩
def dkwX3_grades_16 : List UInt8 := [172]
abbrev dktX3_grades_16 : List UInt8 := dkwX3_grades_16 ++ []
def dkwX3_grades_15 : List UInt8 := [180, 0, 47, 27, 46, 79, 132, 1, 1, 167, 255, 233, 42, 42, 180, 1, 6, 181, 1, 22, 42, 180, 1, 22]
abbrev dktX3_grades_15 : List UInt8 := dkwX3_grades_15 ++ dktX3_grades_16
def dkwX3_grades_14 : List UInt8 := [132, 1, 1, 167, 255, 221, 3, 60, 27, 42, 180, 1, 6, 163, 0, 21, 42, 180, 0, 32, 27, 42]
abbrev dktX3_grades_14 : List UInt8 := dkwX3_grades_14 ++ dktX3_grades_15
def dkwX3_grades_13 : List UInt8 := [180, 0, 20, 27, 42, 180, 0, 35, 27, 46, 79, 42, 180, 0, 23, 27, 42, 180, 0, 38, 27, 46, 79]
abbrev dktX3_grades_13 : List UInt8 := dkwX3_grades_13 ++ dktX3_grades_14
def dkwX3_grades_12 : List UInt8 := [42, 180, 0, 44, 27, 46, 79, 132, 1, 1, 167, 255, 221, 3, 60, 27, 42, 180, 1, 6, 162, 0, 33, 42]
abbrev dktX3_grades_12 : List UInt8 := dkwX3_grades_12 ++ dktX3_grades_13
def dkwX3_grades_11 : List UInt8 := [42, 180, 0, 200, 162, 0, 33, 42, 180, 0, 26, 27, 42, 180, 0, 41, 27, 46, 79, 42, 180, 0, 29, 27]
abbrev dktX3_grades_11 : List UInt8 := dkwX3_grades_11 ++ dktX3_grades_12
def dkwX3_grades_10 : List UInt8 := [180, 0, 187, 158, 0, 5, 2, 172, 42, 180, 0, 47, 42, 180, 1, 6, 42, 180, 0, 200, 79, 3, 60, 27]
abbrev dktX3_grades_10 : List UInt8 := dkwX3_grades_10 ++ dktX3_grades_11
def dkwX3_grades_9 : List UInt8 := [158, 0, 5, 2, 172, 42, 182, 0, 206, 42, 89, 180, 1, 6, 4, 96, 181, 1, 6, 167, 255, 49, 42]
abbrev dktX3_grades_9 : List UInt8 := dkwX3_grades_9 ++ dktX3_grades_10
def dkwX3_grades_8 : List UInt8 := [180, 0, 187, 154, 0, 17, 42, 180, 0, 174, 16, 59, 159, 0, 8, 42, 5, 182, 0, 203, 42, 180, 0, 187]
abbrev dktX3_grades_8 : List UInt8 := dkwX3_grades_8 ++ dktX3_grades_9
def dkwX3_grades_7 : List UInt8 := [180, 0, 200, 79, 42, 20, 1, 17, 182, 0, 241, 153, 0, 11, 42, 182, 0, 206, 42, 182, 1, 19, 42]
abbrev dktX3_grades_7 : List UInt8 := dkwX3_grades_7 ++ dktX3_grades_8
def dkwX3_grades_6 : List UInt8 := [180, 1, 6, 27, 79, 42, 180, 0, 38, 42, 180, 1, 6, 28, 79, 42, 180, 0, 47, 42, 180, 1, 6, 42]
abbrev dktX3_grades_6 : List UInt8 := dkwX3_grades_6 ++ dktX3_grades_7
def dkwX3_grades_5 : List UInt8 := [42, 4, 17, 39, 15, 182, 1, 11, 61, 42, 180, 0, 187, 158, 0, 5, 2, 172, 42, 180, 0, 35, 42]
abbrev dktX3_grades_5 : List UInt8 := dkwX3_grades_5 ++ dktX3_grades_6
def dkwX3_grades_4 : List UInt8 := [182, 0, 241, 154, 0, 8, 42, 5, 182, 0, 203, 42, 180, 0, 187, 158, 0, 5, 2, 172, 42, 182, 0, 206]
abbrev dktX3_grades_4 : List UInt8 := dkwX3_grades_4 ++ dktX3_grades_5
def dkwX3_grades_3 : List UInt8 := [182, 0, 206, 42, 4, 16, 100, 182, 1, 11, 60, 42, 180, 0, 187, 154, 0, 18, 42, 20, 1, 15]
abbrev dktX3_grades_3 : List UInt8 := dkwX3_grades_3 ++ dktX3_grades_4
def dkwX3_grades_2 : List UInt8 := [180, 1, 6, 16, 8, 160, 0, 8, 42, 5, 182, 0, 203, 42, 180, 0, 187, 158, 0, 5, 2, 172, 42]
abbrev dktX3_grades_2 : List UInt8 := dkwX3_grades_2 ++ dktX3_grades_3
def dkwX3_grades_1 : List UInt8 := [180, 0, 187, 154, 0, 206, 42, 180, 0, 174, 153, 0, 199, 42, 20, 1, 9, 182, 0, 241, 153, 0, 12, 42]
abbrev dktX3_grades_1 : List UInt8 := dkwX3_grades_1 ++ dktX3_grades_2
def dkwX3_grades_0 : List UInt8 := [42, 182, 1, 3, 42, 3, 181, 1, 6, 42, 3, 181, 0, 200, 42, 3, 181, 0, 245, 42, 182, 0, 206, 42]
abbrev dktX3_grades_0 : List UInt8 := dkwX3_grades_0 ++ dktX3_grades_1
theorem dksX3_grades_0 : cX3_grades.data.toList.drop 0 = dktX3_grades_0 := by decide +kernel
theorem dksX3_grades_1 : cX3_grades.data.toList.drop 24 = dktX3_grades_1 := dk_seg dksX3_grades_0 24 rfl rfl
theorem dksX3_grades_2 : cX3_grades.data.toList.drop 48 = dktX3_grades_2 := dk_seg dksX3_grades_1 24 rfl rfl
theorem dksX3_grades_3 : cX3_grades.data.toList.drop 71 = dktX3_grades_3 := dk_seg dksX3_grades_2 23 rfl rfl
theorem dksX3_grades_4 : cX3_grades.data.toList.drop 93 = dktX3_grades_4 := dk_seg dksX3_grades_3 22 rfl rfl
theorem dksX3_grades_5 : cX3_grades.data.toList.drop 117 = dktX3_grades_5 := dk_seg dksX3_grades_4 24 rfl rfl
theorem dksX3_grades_6 : cX3_grades.data.toList.drop 140 = dktX3_grades_6 := dk_seg dksX3_grades_5 23 rfl rfl
theorem dksX3_grades_7 : cX3_grades.data.toList.drop 164 = dktX3_grades_7 := dk_seg dksX3_grades_6 24 rfl rfl
theorem dksX3_grades_8 : cX3_grades.data.toList.drop 187 = dktX3_grades_8 := dk_seg dksX3_grades_7 23 rfl rfl
theorem dksX3_grades_9 : cX3_grades.data.toList.drop 211 = dktX3_grades_9 := dk_seg dksX3_grades_8 24 rfl rfl
theorem dksX3_grades_10 : cX3_grades.data.toList.drop 234 = dktX3_grades_10 := dk_seg dksX3_grades_9 23 rfl rfl
theorem dksX3_grades_11 : cX3_grades.data.toList.drop 258 = dktX3_grades_11 := dk_seg dksX3_grades_10 24 rfl rfl
theorem dksX3_grades_12 : cX3_grades.data.toList.drop 282 = dktX3_grades_12 := dk_seg dksX3_grades_11 24 rfl rfl
theorem dksX3_grades_13 : cX3_grades.data.toList.drop 306 = dktX3_grades_13 := dk_seg dksX3_grades_12 24 rfl rfl
theorem dksX3_grades_14 : cX3_grades.data.toList.drop 329 = dktX3_grades_14 := dk_seg dksX3_grades_13 23 rfl rfl
theorem dksX3_grades_15 : cX3_grades.data.toList.drop 351 = dktX3_grades_15 := dk_seg dksX3_grades_14 22 rfl rfl
theorem dksX3_grades_16 : cX3_grades.data.toList.drop 375 = dktX3_grades_16 := dk_seg dksX3_grades_15 24 rfl rfl
theorem dX3_grades_0 : decode cX3_grades 0 = .ok (.aload_n 0, 1) := dk_42 (dk_at dksX3_grades_0 0 rfl rfl)
theorem dX3_grades_1 : decode cX3_grades 1 = .ok (.invokevirtual 259, 3) := dk_182 1 3 (dk_at dksX3_grades_0 1 rfl rfl)
theorem dX3_grades_4 : decode cX3_grades 4 = .ok (.aload_n 0, 1) := dk_42 (dk_at dksX3_grades_0 4 rfl rfl)
theorem dX3_grades_5 : decode cX3_grades 5 = .ok (.iconst 0, 1) := dk_3 (dk_at dksX3_grades_0 5 rfl rfl)
theorem dX3_grades_6 : decode cX3_grades 6 = .ok (.putfield 262, 3) := dk_181 1 6 (dk_at dksX3_grades_0 6 rfl rfl)
theorem dX3_grades_9 : decode cX3_grades 9 = .ok (.aload_n 0, 1) := dk_42 (dk_at dksX3_grades_0 9 rfl rfl)
theorem dX3_grades_10 : decode cX3_grades 10 = .ok (.iconst 0, 1) := dk_3 (dk_at dksX3_grades_0 10 rfl rfl)
theorem dX3_grades_11 : decode cX3_grades 11 = .ok (.putfield 200, 3) := dk_181 0 200 (dk_at dksX3_grades_0 11 rfl rfl)
theorem dX3_grades_14 : decode cX3_grades 14 = .ok (.aload_n 0, 1) := dk_42 (dk_at dksX3_grades_0 14 rfl rfl)
theorem dX3_grades_15 : decode cX3_grades 15 = .ok (.iconst 0, 1) := dk_3 (dk_at dksX3_grades_0 15 rfl rfl)
theorem dX3_grades_16 : decode cX3_grades 16 = .ok (.putfield 245, 3) := dk_181 0 245 (dk_at dksX3_grades_0 16 rfl rfl)
theorem dX3_grades_19 : decode cX3_grades 19 = .ok (.aload_n 0, 1) := dk_42 (dk_at dksX3_grades_0 19 rfl rfl)
theorem dX3_grades_20 : decode cX3_grades 20 = .ok (.invokevirtual 206, 3) := dk_182 0 206 (dk_at dksX3_grades_0 20 rfl rfl)
theorem dX3_grades_23 : decode cX3_grades 23 = .ok (.aload_n 0, 1) := dk_42 (dk_at dksX3_grades_0 23 rfl rfl)
theorem dX3_grades_24 : decode cX3_grades 24 = .ok (.getfield 187, 3) := dk_180 0 187 (dk_at dksX3_grades_1 0 rfl rfl)
theorem dX3_grades_27 : decode cX3_grades 27 = .ok (.ifCond .ne 206, 3) := dk_154 0 206 (dk_at dksX3_grades_1 3 rfl rfl)
theorem dX3_grades_30 : decode cX3_grades 30 = .ok (.aload_n 0, 1) := dk_42 (dk_at dksX3_grades_1 6 rfl rfl)
theorem dX3_grades_31 : decode cX3_grades 31 = .ok (.getfield 174, 3) := dk_180 0 174 (dk_at dksX3_grades_1 7 rfl rfl)
theorem dX3_grades_34 : decode cX3_grades 34 = .ok (.ifCond .eq 199, 3) := dk_153 0 199 (dk_at dksX3_grades_1 10 rfl rfl)
theorem dX3_grades_37 : decode cX3_grades 37 = .ok (.aload_n 0, 1) := dk_42 (dk_at dksX3_grades_1 13 rfl rfl)
theorem dX3_grades_38 : decode cX3_grades 38 = .ok (.ldc2_w 265, 3) := dk_20 1 9 (dk_at dksX3_grades_1 14 rfl rfl)
theorem dX3_grades_41 : decode cX3_grades 41 = .ok (.invokevirtual 241, 3) := dk_182 0 241 (dk_at dksX3_grades_1 17 rfl rfl)
theorem dX3_grades_44 : decode cX3_grades 44 = .ok (.ifCond .eq 12, 3) := dk_153 0 12 (dk_at dksX3_grades_1 20 rfl rfl)
theorem dX3_grades_47 : decode cX3_grades 47 = .ok (.aload_n 0, 1) := dk_42 (dk_at dksX3_grades_1 23 rfl rfl)
theorem dX3_grades_48 : decode cX3_grades 48 = .ok (.getfield 262, 3) := dk_180 1 6 (dk_at dksX3_grades_2 0 rfl rfl)
theorem dX3_grades_51 : decode cX3_grades 51 = .ok (.bipush 8, 2) := dk_16 8 (dk_at dksX3_grades_2 3 rfl rfl)
theorem dX3_grades_53 : decode cX3_grades 53 = .ok (.if_icmp .ne 8, 3) := dk_160 0 8 (dk_at dksX3_grades_2 5 rfl rfl)
theorem dX3_grades_56 : decode cX3_grades 56 = .ok (.aload_n 0, 1) := dk_42 (dk_at dksX3_grades_2 8 rfl rfl)
theorem dX3_grades_57 : decode cX3_grades 57 = .ok (.iconst 2, 1) := dk_5 (dk_at dksX3_grades_2 9 rfl rfl)
theorem dX3_grades_58 : decode cX3_grades 58 = .ok (.invokevirtual 203, 3) := dk_182 0 203 (dk_at dksX3_grades_2 10 rfl rfl)
theorem dX3_grades_61 : decode cX3_grades 61 = .ok (.aload_n 0, 1) := dk_42 (dk_at dksX3_grades_2 13 rfl rfl)
theorem dX3_grades_62 : decode cX3_grades 62 = .ok (.getfield 187, 3) := dk_180 0 187 (dk_at dksX3_grades_2 14 rfl rfl)
theorem dX3_grades_65 : decode cX3_grades 65 = .ok (.ifCond .le 5, 3) := dk_158 0 5 (dk_at dksX3_grades_2 17 rfl rfl)
theorem dX3_grades_68 : decode cX3_grades 68 = .ok (.iconst (-1), 1) := dk_2 (dk_at dksX3_grades_2 20 rfl rfl)
theorem dX3_grades_69 : decode cX3_grades 69 = .ok (.ireturn, 1) := dk_172 (dk_at dksX3_grades_2 21 rfl rfl)
theorem dX3_grades_70 : decode cX3_grades 70 = .ok (.aload_n 0, 1) := dk_42 (dk_at dksX3_grades_2 22 rfl rfl)
theorem dX3_grades_71 : decode cX3_grades 71 = .ok (.invokevirtual 206, 3) := dk_182 0 206 (dk_at dksX3_grades_3 0 rfl rfl)
theorem dX3_grades_74 : decode cX3_grades 74 = .ok (.aload_n 0, 1) := dk_42 (dk_at dksX3_grades_3 3 rfl rfl)
theorem dX3_grades_75 : decode cX3_grades 75 = .ok (.iconst 1, 1) := dk_4 (dk_at dksX3_grades_3 4 rfl rfl)
theorem dX3_grades_76 : decode cX3_grades 76 = .ok (.bipush 100, 2) := dk_16 100 (dk_at dksX3_grades_3 5 rfl rfl)
theorem dX3_grades_78 : decode cX3_grades 78 = .ok (.invokevirtual 267, 3) := dk_182 1 11 (dk_at dksX3_grades_3 7 rfl rfl)
theorem dX3_grades_81 : decode cX3_grades 81 = .ok (.istore_n 1, 1) := dk_60 (dk_at dksX3_grades_3 10 rfl rfl)
theorem dX3_grades_82 : decode cX3_grades 82 = .ok (.aload_n 0, 1) := dk_42 (dk_at dksX3_grades_3 11 rfl rfl)
theorem dX3_grades_83 : decode cX3_grades 83 = .ok (.getfield 187, 3) := dk_180 0 187 (dk_at dksX3_grades_3 12 rfl rfl)
theorem dX3_grades_86 : decode cX3_grades 86 = .ok (.ifCond .ne 18, 3) := dk_154 0 18 (dk_at dksX3_grades_3 15 rfl rfl)
theorem dX3_grades_89 : decode cX3_grades 89 = .ok (.aload_n 0, 1) := dk_42 (dk_at dksX3_grades_3 18 rfl rfl)
theorem dX3_grades_90 : decode cX3_grades 90 = .ok (.ldc2_w 271, 3) := dk_20 1 15 (dk_at dksX3_grades_3 19 rfl rfl)
theorem dX3_grades_93 : decode cX3_grades 93 = .ok (.invokevirtual 241, 3) := dk_182 0 241 (dk_at dksX3_grades_4 0 rfl rfl)
theorem dX3_grades_96 : decode cX3_grades 96 = .ok (.ifCond .ne 8, 3) := dk_154 0 8 (dk_at dksX3_grades_4 3 rfl rfl)
theorem dX3_grades_99 : decode cX3_grades 99 = .ok (.aload_n 0, 1) := dk_42 (dk_at dksX3_grades_4 6 rfl rfl)
theorem dX3_grades_100 : decode cX3_grades 100 = .ok (.iconst 2, 1) := dk_5 (dk_at dksX3_grades_4 7 rfl rfl)
theorem dX3_grades_101 : decode cX3_grades 101 = .ok (.invokevirtual 203, 3) := dk_182 0 203 (dk_at dksX3_grades_4 8 rfl rfl)
theorem dX3_grades_104 : decode cX3_grades 104 = .ok (.aload_n 0, 1) := dk_42 (dk_at dksX3_grades_4 11 rfl rfl)
theorem dX3_grades_105 : decode cX3_grades 105 = .ok (.getfield 187, 3) := dk_180 0 187 (dk_at dksX3_grades_4 12 rfl rfl)
theorem dX3_grades_108 : decode cX3_grades 108 = .ok (.ifCond .le 5, 3) := dk_158 0 5 (dk_at dksX3_grades_4 15 rfl rfl)
theorem dX3_grades_111 : decode cX3_grades 111 = .ok (.iconst (-1), 1) := dk_2 (dk_at dksX3_grades_4 18 rfl rfl)
theorem dX3_grades_112 : decode cX3_grades 112 = .ok (.ireturn, 1) := dk_172 (dk_at dksX3_grades_4 19 rfl rfl)
theorem dX3_grades_113 : decode cX3_grades 113 = .ok (.aload_n 0, 1) := dk_42 (dk_at dksX3_grades_4 20 rfl rfl)
theorem dX3_grades_114 : decode cX3_grades 114 = .ok (.invokevirtual 206, 3) := dk_182 0 206 (dk_at dksX3_grades_4 21 rfl rfl)
theorem dX3_grades_117 : decode cX3_grades 117 = .ok (.aload_n 0, 1) := dk_42 (dk_at dksX3_grades_5 0 rfl rfl)
theorem dX3_grades_118 : decode cX3_grades 118 = .ok (.iconst 1, 1) := dk_4 (dk_at dksX3_grades_5 1 rfl rfl)
theorem dX3_grades_119 : decode cX3_grades 119 = .ok (.sipush 9999, 3) := dk_17 39 15 (dk_at dksX3_grades_5 2 rfl rfl)
theorem dX3_grades_122 : decode cX3_grades 122 = .ok (.invokevirtual 267, 3) := dk_182 1 11 (dk_at dksX3_grades_5 5 rfl rfl)
theorem dX3_grades_125 : decode cX3_grades 125 = .ok (.istore_n 2, 1) := dk_61 (dk_at dksX3_grades_5 8 rfl rfl)
theorem dX3_grades_126 : decode cX3_grades 126 = .ok (.aload_n 0, 1) := dk_42 (dk_at dksX3_grades_5 9 rfl rfl)
theorem dX3_grades_127 : decode cX3_grades 127 = .ok (.getfield 187, 3) := dk_180 0 187 (dk_at dksX3_grades_5 10 rfl rfl)
theorem dX3_grades_130 : decode cX3_grades 130 = .ok (.ifCond .le 5, 3) := dk_158 0 5 (dk_at dksX3_grades_5 13 rfl rfl)
theorem dX3_grades_133 : decode cX3_grades 133 = .ok (.iconst (-1), 1) := dk_2 (dk_at dksX3_grades_5 16 rfl rfl)
theorem dX3_grades_134 : decode cX3_grades 134 = .ok (.ireturn, 1) := dk_172 (dk_at dksX3_grades_5 17 rfl rfl)
theorem dX3_grades_135 : decode cX3_grades 135 = .ok (.aload_n 0, 1) := dk_42 (dk_at dksX3_grades_5 18 rfl rfl)
theorem dX3_grades_136 : decode cX3_grades 136 = .ok (.getfield 35, 3) := dk_180 0 35 (dk_at dksX3_grades_5 19 rfl rfl)
theorem dX3_grades_139 : decode cX3_grades 139 = .ok (.aload_n 0, 1) := dk_42 (dk_at dksX3_grades_5 22 rfl rfl)
theorem dX3_grades_140 : decode cX3_grades 140 = .ok (.getfield 262, 3) := dk_180 1 6 (dk_at dksX3_grades_6 0 rfl rfl)
theorem dX3_grades_143 : decode cX3_grades 143 = .ok (.iload_n 1, 1) := dk_27 (dk_at dksX3_grades_6 3 rfl rfl)
theorem dX3_grades_144 : decode cX3_grades 144 = .ok (.iastore, 1) := dk_79 (dk_at dksX3_grades_6 4 rfl rfl)
theorem dX3_grades_145 : decode cX3_grades 145 = .ok (.aload_n 0, 1) := dk_42 (dk_at dksX3_grades_6 5 rfl rfl)
theorem dX3_grades_146 : decode cX3_grades 146 = .ok (.getfield 38, 3) := dk_180 0 38 (dk_at dksX3_grades_6 6 rfl rfl)
theorem dX3_grades_149 : decode cX3_grades 149 = .ok (.aload_n 0, 1) := dk_42 (dk_at dksX3_grades_6 9 rfl rfl)
theorem dX3_grades_150 : decode cX3_grades 150 = .ok (.getfield 262, 3) := dk_180 1 6 (dk_at dksX3_grades_6 10 rfl rfl)
theorem dX3_grades_153 : decode cX3_grades 153 = .ok (.iload_n 2, 1) := dk_28 (dk_at dksX3_grades_6 13 rfl rfl)
theorem dX3_grades_154 : decode cX3_grades 154 = .ok (.iastore, 1) := dk_79 (dk_at dksX3_grades_6 14 rfl rfl)
theorem dX3_grades_155 : decode cX3_grades 155 = .ok (.aload_n 0, 1) := dk_42 (dk_at dksX3_grades_6 15 rfl rfl)
theorem dX3_grades_156 : decode cX3_grades 156 = .ok (.getfield 47, 3) := dk_180 0 47 (dk_at dksX3_grades_6 16 rfl rfl)
theorem dX3_grades_159 : decode cX3_grades 159 = .ok (.aload_n 0, 1) := dk_42 (dk_at dksX3_grades_6 19 rfl rfl)
theorem dX3_grades_160 : decode cX3_grades 160 = .ok (.getfield 262, 3) := dk_180 1 6 (dk_at dksX3_grades_6 20 rfl rfl)
theorem dX3_grades_163 : decode cX3_grades 163 = .ok (.aload_n 0, 1) := dk_42 (dk_at dksX3_grades_6 23 rfl rfl)
theorem dX3_grades_164 : decode cX3_grades 164 = .ok (.getfield 200, 3) := dk_180 0 200 (dk_at dksX3_grades_7 0 rfl rfl)
theorem dX3_grades_167 : decode cX3_grades 167 = .ok (.iastore, 1) := dk_79 (dk_at dksX3_grades_7 3 rfl rfl)
theorem dX3_grades_168 : decode cX3_grades 168 = .ok (.aload_n 0, 1) := dk_42 (dk_at dksX3_grades_7 4 rfl rfl)
theorem dX3_grades_169 : decode cX3_grades 169 = .ok (.ldc2_w 273, 3) := dk_20 1 17 (dk_at dksX3_grades_7 5 rfl rfl)
theorem dX3_grades_172 : decode cX3_grades 172 = .ok (.invokevirtual 241, 3) := dk_182 0 241 (dk_at dksX3_grades_7 8 rfl rfl)
theorem dX3_grades_175 : decode cX3_grades 175 = .ok (.ifCond .eq 11, 3) := dk_153 0 11 (dk_at dksX3_grades_7 11 rfl rfl)
theorem dX3_grades_178 : decode cX3_grades 178 = .ok (.aload_n 0, 1) := dk_42 (dk_at dksX3_grades_7 14 rfl rfl)
theorem dX3_grades_179 : decode cX3_grades 179 = .ok (.invokevirtual 206, 3) := dk_182 0 206 (dk_at dksX3_grades_7 15 rfl rfl)
theorem dX3_grades_182 : decode cX3_grades 182 = .ok (.aload_n 0, 1) := dk_42 (dk_at dksX3_grades_7 18 rfl rfl)
theorem dX3_grades_183 : decode cX3_grades 183 = .ok (.invokevirtual 275, 3) := dk_182 1 19 (dk_at dksX3_grades_7 19 rfl rfl)
theorem dX3_grades_186 : decode cX3_grades 186 = .ok (.aload_n 0, 1) := dk_42 (dk_at dksX3_grades_7 22 rfl rfl)
theorem dX3_grades_187 : decode cX3_grades 187 = .ok (.getfield 187, 3) := dk_180 0 187 (dk_at dksX3_grades_8 0 rfl rfl)
theorem dX3_grades_190 : decode cX3_grades 190 = .ok (.ifCond .ne 17, 3) := dk_154 0 17 (dk_at dksX3_grades_8 3 rfl rfl)
theorem dX3_grades_193 : decode cX3_grades 193 = .ok (.aload_n 0, 1) := dk_42 (dk_at dksX3_grades_8 6 rfl rfl)
theorem dX3_grades_194 : decode cX3_grades 194 = .ok (.getfield 174, 3) := dk_180 0 174 (dk_at dksX3_grades_8 7 rfl rfl)
theorem dX3_grades_197 : decode cX3_grades 197 = .ok (.bipush 59, 2) := dk_16 59 (dk_at dksX3_grades_8 10 rfl rfl)
theorem dX3_grades_199 : decode cX3_grades 199 = .ok (.if_icmp .eq 8, 3) := dk_159 0 8 (dk_at dksX3_grades_8 12 rfl rfl)
theorem dX3_grades_202 : decode cX3_grades 202 = .ok (.aload_n 0, 1) := dk_42 (dk_at dksX3_grades_8 15 rfl rfl)
theorem dX3_grades_203 : decode cX3_grades 203 = .ok (.iconst 2, 1) := dk_5 (dk_at dksX3_grades_8 16 rfl rfl)
theorem dX3_grades_204 : decode cX3_grades 204 = .ok (.invokevirtual 203, 3) := dk_182 0 203 (dk_at dksX3_grades_8 17 rfl rfl)
theorem dX3_grades_207 : decode cX3_grades 207 = .ok (.aload_n 0, 1) := dk_42 (dk_at dksX3_grades_8 20 rfl rfl)
theorem dX3_grades_208 : decode cX3_grades 208 = .ok (.getfield 187, 3) := dk_180 0 187 (dk_at dksX3_grades_8 21 rfl rfl)
theorem dX3_grades_211 : decode cX3_grades 211 = .ok (.ifCond .le 5, 3) := dk_158 0 5 (dk_at dksX3_grades_9 0 rfl rfl)
theorem dX3_grades_214 : decode cX3_grades 214 = .ok (.iconst (-1), 1) := dk_2 (dk_at dksX3_grades_9 3 rfl rfl)
theorem dX3_grades_215 : decode cX3_grades 215 = .ok (.ireturn, 1) := dk_172 (dk_at dksX3_grades_9 4 rfl rfl)
theorem dX3_grades_216 : decode cX3_grades 216 = .ok (.aload_n 0, 1) := dk_42 (dk_at dksX3_grades_9 5 rfl rfl)
theorem dX3_grades_217 : decode cX3_grades 217 = .ok (.invokevirtual 206, 3) := dk_182 0 206 (dk_at dksX3_grades_9 6 rfl rfl)
theorem dX3_grades_220 : decode cX3_grades 220 = .ok (.aload_n 0, 1) := dk_42 (dk_at dksX3_grades_9 9 rfl rfl)
theorem dX3_grades_221 : decode cX3_grades 221 = .ok (.dup, 1) := dk_89 (dk_at dksX3_grades_9 10 rfl rfl)
theorem dX3_grades_222 : decode cX3_grades 222 = .ok (.getfield 262, 3) := dk_180 1 6 (dk_at dksX3_grades_9 11 rfl rfl)
theorem dX3_grades_225 : decode cX3_grades 225 = .ok (.iconst 1, 1) := dk_4 (dk_at dksX3_grades_9 14 rfl rfl)
theorem dX3_grades_226 : decode cX3_grades 226 = .ok (.iadd, 1) := dk_96 (dk_at dksX3_grades_9 15 rfl rfl)
theorem dX3_grades_227 : decode cX3_grades 227 = .ok (.putfield 262, 3) := dk_181 1 6 (dk_at dksX3_grades_9 16 rfl rfl)
theorem dX3_grades_230 : decode cX3_grades 230 = .ok (.goto (-207), 3) := dk_167 255 49 (dk_at dksX3_grades_9 19 rfl rfl)
theorem dX3_grades_233 : decode cX3_grades 233 = .ok (.aload_n 0, 1) := dk_42 (dk_at dksX3_grades_9 22 rfl rfl)
theorem dX3_grades_234 : decode cX3_grades 234 = .ok (.getfield 187, 3) := dk_180 0 187 (dk_at dksX3_grades_10 0 rfl rfl)
theorem dX3_grades_237 : decode cX3_grades 237 = .ok (.ifCond .le 5, 3) := dk_158 0 5 (dk_at dksX3_grades_10 3 rfl rfl)
theorem dX3_grades_240 : decode cX3_grades 240 = .ok (.iconst (-1), 1) := dk_2 (dk_at dksX3_grades_10 6 rfl rfl)
theorem dX3_grades_241 : decode cX3_grades 241 = .ok (.ireturn, 1) := dk_172 (dk_at dksX3_grades_10 7 rfl rfl)
theorem dX3_grades_242 : decode cX3_grades 242 = .ok (.aload_n 0, 1) := dk_42 (dk_at dksX3_grades_10 8 rfl rfl)
theorem dX3_grades_243 : decode cX3_grades 243 = .ok (.getfield 47, 3) := dk_180 0 47 (dk_at dksX3_grades_10 9 rfl rfl)
theorem dX3_grades_246 : decode cX3_grades 246 = .ok (.aload_n 0, 1) := dk_42 (dk_at dksX3_grades_10 12 rfl rfl)
theorem dX3_grades_247 : decode cX3_grades 247 = .ok (.getfield 262, 3) := dk_180 1 6 (dk_at dksX3_grades_10 13 rfl rfl)
theorem dX3_grades_250 : decode cX3_grades 250 = .ok (.aload_n 0, 1) := dk_42 (dk_at dksX3_grades_10 16 rfl rfl)
theorem dX3_grades_251 : decode cX3_grades 251 = .ok (.getfield 200, 3) := dk_180 0 200 (dk_at dksX3_grades_10 17 rfl rfl)
theorem dX3_grades_254 : decode cX3_grades 254 = .ok (.iastore, 1) := dk_79 (dk_at dksX3_grades_10 20 rfl rfl)
theorem dX3_grades_255 : decode cX3_grades 255 = .ok (.iconst 0, 1) := dk_3 (dk_at dksX3_grades_10 21 rfl rfl)
theorem dX3_grades_256 : decode cX3_grades 256 = .ok (.istore_n 1, 1) := dk_60 (dk_at dksX3_grades_10 22 rfl rfl)
theorem dX3_grades_257 : decode cX3_grades 257 = .ok (.iload_n 1, 1) := dk_27 (dk_at dksX3_grades_10 23 rfl rfl)
theorem dX3_grades_258 : decode cX3_grades 258 = .ok (.aload_n 0, 1) := dk_42 (dk_at dksX3_grades_11 0 rfl rfl)
theorem dX3_grades_259 : decode cX3_grades 259 = .ok (.getfield 200, 3) := dk_180 0 200 (dk_at dksX3_grades_11 1 rfl rfl)
theorem dX3_grades_262 : decode cX3_grades 262 = .ok (.if_icmp .ge 33, 3) := dk_162 0 33 (dk_at dksX3_grades_11 4 rfl rfl)
theorem dX3_grades_265 : decode cX3_grades 265 = .ok (.aload_n 0, 1) := dk_42 (dk_at dksX3_grades_11 7 rfl rfl)
theorem dX3_grades_266 : decode cX3_grades 266 = .ok (.getfield 26, 3) := dk_180 0 26 (dk_at dksX3_grades_11 8 rfl rfl)
theorem dX3_grades_269 : decode cX3_grades 269 = .ok (.iload_n 1, 1) := dk_27 (dk_at dksX3_grades_11 11 rfl rfl)
theorem dX3_grades_270 : decode cX3_grades 270 = .ok (.aload_n 0, 1) := dk_42 (dk_at dksX3_grades_11 12 rfl rfl)
theorem dX3_grades_271 : decode cX3_grades 271 = .ok (.getfield 41, 3) := dk_180 0 41 (dk_at dksX3_grades_11 13 rfl rfl)
theorem dX3_grades_274 : decode cX3_grades 274 = .ok (.iload_n 1, 1) := dk_27 (dk_at dksX3_grades_11 16 rfl rfl)
theorem dX3_grades_275 : decode cX3_grades 275 = .ok (.iaload, 1) := dk_46 (dk_at dksX3_grades_11 17 rfl rfl)
theorem dX3_grades_276 : decode cX3_grades 276 = .ok (.iastore, 1) := dk_79 (dk_at dksX3_grades_11 18 rfl rfl)
theorem dX3_grades_277 : decode cX3_grades 277 = .ok (.aload_n 0, 1) := dk_42 (dk_at dksX3_grades_11 19 rfl rfl)
theorem dX3_grades_278 : decode cX3_grades 278 = .ok (.getfield 29, 3) := dk_180 0 29 (dk_at dksX3_grades_11 20 rfl rfl)
theorem dX3_grades_281 : decode cX3_grades 281 = .ok (.iload_n 1, 1) := dk_27 (dk_at dksX3_grades_11 23 rfl rfl)
theorem dX3_grades_282 : decode cX3_grades 282 = .ok (.aload_n 0, 1) := dk_42 (dk_at dksX3_grades_12 0 rfl rfl)
theorem dX3_grades_283 : decode cX3_grades 283 = .ok (.getfield 44, 3) := dk_180 0 44 (dk_at dksX3_grades_12 1 rfl rfl)
theorem dX3_grades_286 : decode cX3_grades 286 = .ok (.iload_n 1, 1) := dk_27 (dk_at dksX3_grades_12 4 rfl rfl)
theorem dX3_grades_287 : decode cX3_grades 287 = .ok (.iaload, 1) := dk_46 (dk_at dksX3_grades_12 5 rfl rfl)
theorem dX3_grades_288 : decode cX3_grades 288 = .ok (.iastore, 1) := dk_79 (dk_at dksX3_grades_12 6 rfl rfl)
theorem dX3_grades_289 : decode cX3_grades 289 = .ok (.iinc 1 1, 3) := dk_132 1 1 (dk_at dksX3_grades_12 7 rfl rfl)
theorem dX3_grades_292 : decode cX3_grades 292 = .ok (.goto (-35), 3) := dk_167 255 221 (dk_at dksX3_grades_12 10 rfl rfl)
theorem dX3_grades_295 : decode cX3_grades 295 = .ok (.iconst 0, 1) := dk_3 (dk_at dksX3_grades_12 13 rfl rfl)
theorem dX3_grades_296 : decode cX3_grades 296 = .ok (.istore_n 1, 1) := dk_60 (dk_at dksX3_grades_12 14 rfl rfl)
theorem dX3_grades_297 : decode cX3_grades 297 = .ok (.iload_n 1, 1) := dk_27 (dk_at dksX3_grades_12 15 rfl rfl)
theorem dX3_grades_298 : decode cX3_grades 298 = .ok (.aload_n 0, 1) := dk_42 (dk_at dksX3_grades_12 16 rfl rfl)
theorem dX3_grades_299 : decode cX3_grades 299 = .ok (.getfield 262, 3) := dk_180 1 6 (dk_at dksX3_grades_12 17 rfl rfl)
theorem dX3_grades_302 : decode cX3_grades 302 = .ok (.if_icmp .ge 33, 3) := dk_162 0 33 (dk_at dksX3_grades_12 20 rfl rfl)
theorem dX3_grades_305 : decode cX3_grades 305 = .ok (.aload_n 0, 1) := dk_42 (dk_at dksX3_grades_12 23 rfl rfl)
theorem dX3_grades_306 : decode cX3_grades 306 = .ok (.getfield 20, 3) := dk_180 0 20 (dk_at dksX3_grades_13 0 rfl rfl)
theorem dX3_grades_309 : decode cX3_grades 309 = .ok (.iload_n 1, 1) := dk_27 (dk_at dksX3_grades_13 3 rfl rfl)
theorem dX3_grades_310 : decode cX3_grades 310 = .ok (.aload_n 0, 1) := dk_42 (dk_at dksX3_grades_13 4 rfl rfl)
theorem dX3_grades_311 : decode cX3_grades 311 = .ok (.getfield 35, 3) := dk_180 0 35 (dk_at dksX3_grades_13 5 rfl rfl)
theorem dX3_grades_314 : decode cX3_grades 314 = .ok (.iload_n 1, 1) := dk_27 (dk_at dksX3_grades_13 8 rfl rfl)
theorem dX3_grades_315 : decode cX3_grades 315 = .ok (.iaload, 1) := dk_46 (dk_at dksX3_grades_13 9 rfl rfl)
theorem dX3_grades_316 : decode cX3_grades 316 = .ok (.iastore, 1) := dk_79 (dk_at dksX3_grades_13 10 rfl rfl)
theorem dX3_grades_317 : decode cX3_grades 317 = .ok (.aload_n 0, 1) := dk_42 (dk_at dksX3_grades_13 11 rfl rfl)
theorem dX3_grades_318 : decode cX3_grades 318 = .ok (.getfield 23, 3) := dk_180 0 23 (dk_at dksX3_grades_13 12 rfl rfl)
theorem dX3_grades_321 : decode cX3_grades 321 = .ok (.iload_n 1, 1) := dk_27 (dk_at dksX3_grades_13 15 rfl rfl)
theorem dX3_grades_322 : decode cX3_grades 322 = .ok (.aload_n 0, 1) := dk_42 (dk_at dksX3_grades_13 16 rfl rfl)
theorem dX3_grades_323 : decode cX3_grades 323 = .ok (.getfield 38, 3) := dk_180 0 38 (dk_at dksX3_grades_13 17 rfl rfl)
theorem dX3_grades_326 : decode cX3_grades 326 = .ok (.iload_n 1, 1) := dk_27 (dk_at dksX3_grades_13 20 rfl rfl)
theorem dX3_grades_327 : decode cX3_grades 327 = .ok (.iaload, 1) := dk_46 (dk_at dksX3_grades_13 21 rfl rfl)
theorem dX3_grades_328 : decode cX3_grades 328 = .ok (.iastore, 1) := dk_79 (dk_at dksX3_grades_13 22 rfl rfl)
theorem dX3_grades_329 : decode cX3_grades 329 = .ok (.iinc 1 1, 3) := dk_132 1 1 (dk_at dksX3_grades_14 0 rfl rfl)
theorem dX3_grades_332 : decode cX3_grades 332 = .ok (.goto (-35), 3) := dk_167 255 221 (dk_at dksX3_grades_14 3 rfl rfl)
theorem dX3_grades_335 : decode cX3_grades 335 = .ok (.iconst 0, 1) := dk_3 (dk_at dksX3_grades_14 6 rfl rfl)
theorem dX3_grades_336 : decode cX3_grades 336 = .ok (.istore_n 1, 1) := dk_60 (dk_at dksX3_grades_14 7 rfl rfl)
theorem dX3_grades_337 : decode cX3_grades 337 = .ok (.iload_n 1, 1) := dk_27 (dk_at dksX3_grades_14 8 rfl rfl)
theorem dX3_grades_338 : decode cX3_grades 338 = .ok (.aload_n 0, 1) := dk_42 (dk_at dksX3_grades_14 9 rfl rfl)
theorem dX3_grades_339 : decode cX3_grades 339 = .ok (.getfield 262, 3) := dk_180 1 6 (dk_at dksX3_grades_14 10 rfl rfl)
theorem dX3_grades_342 : decode cX3_grades 342 = .ok (.if_icmp .gt 21, 3) := dk_163 0 21 (dk_at dksX3_grades_14 13 rfl rfl)
theorem dX3_grades_345 : decode cX3_grades 345 = .ok (.aload_n 0, 1) := dk_42 (dk_at dksX3_grades_14 16 rfl rfl)
theorem dX3_grades_346 : decode cX3_grades 346 = .ok (.getfield 32, 3) := dk_180 0 32 (dk_at dksX3_grades_14 17 rfl rfl)
theorem dX3_grades_349 : decode cX3_grades 349 = .ok (.iload_n 1, 1) := dk_27 (dk_at dksX3_grades_14 20 rfl rfl)
theorem dX3_grades_350 : decode cX3_grades 350 = .ok (.aload_n 0, 1) := dk_42 (dk_at dksX3_grades_14 21 rfl rfl)
theorem dX3_grades_351 : decode cX3_grades 351 = .ok (.getfield 47, 3) := dk_180 0 47 (dk_at dksX3_grades_15 0 rfl rfl)
theorem dX3_grades_354 : decode cX3_grades 354 = .ok (.iload_n 1, 1) := dk_27 (dk_at dksX3_grades_15 3 rfl rfl)
theorem dX3_grades_355 : decode cX3_grades 355 = .ok (.iaload, 1) := dk_46 (dk_at dksX3_grades_15 4 rfl rfl)
theorem dX3_grades_356 : decode cX3_grades 356 = .ok (.iastore, 1) := dk_79 (dk_at dksX3_grades_15 5 rfl rfl)
theorem dX3_grades_357 : decode cX3_grades 357 = .ok (.iinc 1 1, 3) := dk_132 1 1 (dk_at dksX3_grades_15 6 rfl rfl)
theorem dX3_grades_360 : decode cX3_grades 360 = .ok (.goto (-23), 3) := dk_167 255 233 (dk_at dksX3_grades_15 9 rfl rfl)
theorem dX3_grades_363 : decode cX3_grades 363 = .ok (.aload_n 0, 1) := dk_42 (dk_at dksX3_grades_15 12 rfl rfl)
theorem dX3_grades_364 : decode cX3_grades 364 = .ok (.aload_n 0, 1) := dk_42 (dk_at dksX3_grades_15 13 rfl rfl)
theorem dX3_grades_365 : decode cX3_grades 365 = .ok (.getfield 262, 3) := dk_180 1 6 (dk_at dksX3_grades_15 14 rfl rfl)
theorem dX3_grades_368 : decode cX3_grades 368 = .ok (.putfield 278, 3) := dk_181 1 22 (dk_at dksX3_grades_15 17 rfl rfl)
theorem dX3_grades_371 : decode cX3_grades 371 = .ok (.aload_n 0, 1) := dk_42 (dk_at dksX3_grades_15 20 rfl rfl)
theorem dX3_grades_372 : decode cX3_grades 372 = .ok (.getfield 278, 3) := dk_180 1 22 (dk_at dksX3_grades_15 21 rfl rfl)
theorem dX3_grades_375 : decode cX3_grades 375 = .ok (.ireturn, 1) := dk_172 (dk_at dksX3_grades_16 0 rfl rfl)
abbrev cX3_begin : ByteArray := prog_16_method_29_code
def yX3_begin : MethodName := ⟨RX3, "begin", "()V"⟩
def dkwX3_begin_1 : List UInt8 := [2, 181, 0, 16, 177]
abbrev dktX3_begin_1 : List UInt8 := dkwX3_begin_1 ++ []
def dkwX3_begin_0 : List UInt8 := [42, 42, 180, 0, 147, 181, 0, 157, 42, 3, 181, 0, 147, 42, 3, 181, 0, 154, 42, 3, 181, 0, 187, 42]
abbrev dktX3_begin_0 : List UInt8 := dkwX3_begin_0 ++ dktX3_begin_1
theorem dksX3_begin_0 : cX3_begin.data.toList.drop 0 = dktX3_begin_0 := by decide +kernel
theorem dksX3_begin_1 : cX3_begin.data.toList.drop 24 = dktX3_begin_1 := dk_seg dksX3_begin_0 24 rfl rfl
theorem dX3_begin_0 : decode cX3_begin 0 = .ok (.aload_n 0, 1) := dk_42 (dk_at dksX3_begin_0 0 rfl rfl)
theorem dX3_begin_1 : decode cX3_begin 1 = .ok (.aload_n 0, 1) := dk_42 (dk_at dksX3_begin_0 1 rfl rfl)
theorem dX3_begin_2 : decode cX3_begin 2 = .ok (.getfield 147, 3) := dk_180 0 147 (dk_at dksX3_begin_0 2 rfl rfl)
theorem dX3_begin_5 : decode cX3_begin 5 = .ok (.putfield 157, 3) := dk_181 0 157 (dk_at dksX3_begin_0 5 rfl rfl)
theorem dX3_begin_8 : decode cX3_begin 8 = .ok (.aload_n 0, 1) := dk_42 (dk_at dksX3_begin_0 8 rfl rfl)
theorem dX3_begin_9 : decode cX3_begin 9 = .ok (.iconst 0, 1) := dk_3 (dk_at dksX3_begin_0 9 rfl rfl)
theorem dX3_begin_10 : decode cX3_begin 10 = .ok (.putfield 147, 3) := dk_181 0 147 (dk_at dksX3_begin_0 10 rfl rfl)
theorem dX3_begin_13 : decode cX3_begin 13 = .ok (.aload_n 0, 1) := dk_42 (dk_at dksX3_begin_0 13 rfl rfl)
theorem dX3_begin_14 : decode cX3_begin 14 = .ok (.iconst 0, 1) := dk_3 (dk_at dksX3_begin_0 14 rfl rfl)
theorem dX3_begin_15 : decode cX3_begin 15 = .ok (.putfield 154, 3) := dk_181 0 154 (dk_at dksX3_begin_0 15 rfl rfl)
theorem dX3_begin_18 : decode cX3_begin 18 = .ok (.aload_n 0, 1) := dk_42 (dk_at dksX3_begin_0 18 rfl rfl)
theorem dX3_begin_19 : decode cX3_begin 19 = .ok (.iconst 0, 1) := dk_3 (dk_at dksX3_begin_0 19 rfl rfl)
theorem dX3_begin_20 : decode cX3_begin 20 = .ok (.putfield 187, 3) := dk_181 0 187 (dk_at dksX3_begin_0 20 rfl rfl)
theorem dX3_begin_23 : decode cX3_begin 23 = .ok (.aload_n 0, 1) := dk_42 (dk_at dksX3_begin_0 23 rfl rfl)
theorem dX3_begin_24 : decode cX3_begin 24 = .ok (.iconst (-1), 1) := dk_2 (dk_at dksX3_begin_1 0 rfl rfl)
theorem dX3_begin_25 : decode cX3_begin 25 = .ok (.putfield 16, 3) := dk_181 0 16 (dk_at dksX3_begin_1 1 rfl rfl)
theorem dX3_begin_28 : decode cX3_begin 28 = .ok (.return_, 1) := dk_177 (dk_at dksX3_begin_1 4 rfl rfl)
abbrev cX3_next : ByteArray := prog_16_method_15_code
def yX3_next : MethodName := ⟨RX3, "next", "()V"⟩
def dkwX3_next_10 : List UInt8 := [181, 0, 174, 42, 180, 0, 174, 6, 159, 0, 13, 42, 89, 180, 0, 154, 28, 96, 181, 0, 154, 177]
abbrev dktX3_next_10 : List UInt8 := dkwX3_next_10 ++ []
def dkwX3_next_9 : List UInt8 := [5, 181, 0, 174, 167, 0, 21, 4, 61, 42, 27, 184, 0, 184, 153, 0, 7, 27, 167, 0, 4, 6]
abbrev dktX3_next_9 : List UInt8 := dkwX3_next_9 ++ dktX3_next_10
def dkwX3_next_8 : List UInt8 := [167, 255, 217, 42, 28, 7, 163, 0, 14, 42, 28, 182, 0, 160, 184, 0, 177, 153, 0, 7, 6, 167, 0, 4]
abbrev dktX3_next_8 : List UInt8 := dkwX3_next_8 ++ dktX3_next_9
def dkwX3_next_7 : List UInt8 := [16, 10, 42, 180, 0, 171, 104, 42, 28, 182, 0, 160, 96, 16, 48, 100, 181, 0, 171, 132, 2, 1]
abbrev dktX3_next_7 : List UInt8 := dkwX3_next_7 ++ dktX3_next_8
def dkwX3_next_6 : List UInt8 := [184, 0, 181, 153, 0, 73, 42, 28, 182, 0, 160, 184, 0, 181, 153, 0, 34, 28, 7, 162, 0, 23, 42]
abbrev dktX3_next_6 : List UInt8 := dkwX3_next_6 ++ dktX3_next_7
def dkwX3_next_5 : List UInt8 := [167, 255, 218, 42, 28, 16, 8, 164, 0, 7, 6, 167, 0, 4, 4, 181, 0, 174, 167, 0, 98, 27]
abbrev dktX3_next_5 : List UInt8 := dkwX3_next_5 ++ dktX3_next_6
def dkwX3_next_4 : List UInt8 := [162, 0, 21, 42, 42, 180, 0, 167, 16, 8, 121, 42, 28, 182, 0, 160, 133, 129, 181, 0, 167, 132, 2, 1]
abbrev dktX3_next_4 : List UInt8 := dkwX3_next_4 ++ dktX3_next_5
def dkwX3_next_3 : List UInt8 := [167, 0, 164, 27, 184, 0, 177, 153, 0, 62, 42, 28, 182, 0, 160, 184, 0, 177, 153, 0, 33, 28, 16, 8]
abbrev dktX3_next_3 : List UInt8 := dkwX3_next_3 ++ dktX3_next_4
def dkwX3_next_2 : List UInt8 := [60, 3, 61, 42, 9, 181, 0, 167, 42, 3, 181, 0, 171, 27, 156, 0, 11, 42, 3, 181, 0, 174]
abbrev dktX3_next_2 : List UInt8 := dkwX3_next_2 ++ dktX3_next_3
def dkwX3_next_1 : List UInt8 := [180, 0, 154, 4, 96, 181, 0, 154, 167, 255, 226, 42, 42, 180, 0, 154, 181, 0, 164, 42, 3, 182, 0, 160]
abbrev dktX3_next_1 : List UInt8 := dkwX3_next_1 ++ dktX3_next_2
def dkwX3_next_0 : List UInt8 := [42, 3, 182, 0, 160, 16, 32, 159, 0, 13, 42, 3, 182, 0, 160, 16, 10, 160, 0, 16, 42, 89]
abbrev dktX3_next_0 : List UInt8 := dkwX3_next_0 ++ dktX3_next_1
theorem dksX3_next_0 : cX3_next.data.toList.drop 0 = dktX3_next_0 := by decide +kernel
theorem dksX3_next_1 : cX3_next.data.toList.drop 22 = dktX3_next_1 := dk_seg dksX3_next_0 22 rfl rfl
theorem dksX3_next_2 : cX3_next.data.toList.drop 46 = dktX3_next_2 := dk_seg dksX3_next_1 24 rfl rfl
theorem dksX3_next_3 : cX3_next.data.toList.drop 68 = dktX3_next_3 := dk_seg dksX3_next_2 22 rfl rfl
theorem dksX3_next_4 : cX3_next.data.toList.drop 92 = dktX3_next_4 := dk_seg dksX3_next_3 24 rfl rfl
theorem dksX3_next_5 : cX3_next.data.toList.drop 116 = dktX3_next_5 := dk_seg dksX3_next_4 24 rfl rfl
theorem dksX3_next_6 : cX3_next.data.toList.drop 138 = dktX3_next_6 := dk_seg dksX3_next_5 22 rfl rfl
theorem dksX3_next_7 : cX3_next.data.toList.drop 161 = dktX3_next_7 := dk_seg dksX3_next_6 23 rfl rfl
theorem dksX3_next_8 : cX3_next.data.toList.drop 183 = dktX3_next_8 := dk_seg dksX3_next_7 22 rfl rfl
theorem dksX3_next_9 : cX3_next.data.toList.drop 207 = dktX3_next_9 := dk_seg dksX3_next_8 24 rfl rfl
theorem dksX3_next_10 : cX3_next.data.toList.drop 229 = dktX3_next_10 := dk_seg dksX3_next_9 22 rfl rfl
theorem dX3_next_0 : decode cX3_next 0 = .ok (.aload_n 0, 1) := dk_42 (dk_at dksX3_next_0 0 rfl rfl)
theorem dX3_next_1 : decode cX3_next 1 = .ok (.iconst 0, 1) := dk_3 (dk_at dksX3_next_0 1 rfl rfl)
theorem dX3_next_2 : decode cX3_next 2 = .ok (.invokevirtual 160, 3) := dk_182 0 160 (dk_at dksX3_next_0 2 rfl rfl)
theorem dX3_next_5 : decode cX3_next 5 = .ok (.bipush 32, 2) := dk_16 32 (dk_at dksX3_next_0 5 rfl rfl)
theorem dX3_next_7 : decode cX3_next 7 = .ok (.if_icmp .eq 13, 3) := dk_159 0 13 (dk_at dksX3_next_0 7 rfl rfl)
theorem dX3_next_10 : decode cX3_next 10 = .ok (.aload_n 0, 1) := dk_42 (dk_at dksX3_next_0 10 rfl rfl)
theorem dX3_next_11 : decode cX3_next 11 = .ok (.iconst 0, 1) := dk_3 (dk_at dksX3_next_0 11 rfl rfl)
theorem dX3_next_12 : decode cX3_next 12 = .ok (.invokevirtual 160, 3) := dk_182 0 160 (dk_at dksX3_next_0 12 rfl rfl)
theorem dX3_next_15 : decode cX3_next 15 = .ok (.bipush 10, 2) := dk_16 10 (dk_at dksX3_next_0 15 rfl rfl)
theorem dX3_next_17 : decode cX3_next 17 = .ok (.if_icmp .ne 16, 3) := dk_160 0 16 (dk_at dksX3_next_0 17 rfl rfl)
theorem dX3_next_20 : decode cX3_next 20 = .ok (.aload_n 0, 1) := dk_42 (dk_at dksX3_next_0 20 rfl rfl)
theorem dX3_next_21 : decode cX3_next 21 = .ok (.dup, 1) := dk_89 (dk_at dksX3_next_0 21 rfl rfl)
theorem dX3_next_22 : decode cX3_next 22 = .ok (.getfield 154, 3) := dk_180 0 154 (dk_at dksX3_next_1 0 rfl rfl)
theorem dX3_next_25 : decode cX3_next 25 = .ok (.iconst 1, 1) := dk_4 (dk_at dksX3_next_1 3 rfl rfl)
theorem dX3_next_26 : decode cX3_next 26 = .ok (.iadd, 1) := dk_96 (dk_at dksX3_next_1 4 rfl rfl)
theorem dX3_next_27 : decode cX3_next 27 = .ok (.putfield 154, 3) := dk_181 0 154 (dk_at dksX3_next_1 5 rfl rfl)
theorem dX3_next_30 : decode cX3_next 30 = .ok (.goto (-30), 3) := dk_167 255 226 (dk_at dksX3_next_1 8 rfl rfl)
theorem dX3_next_33 : decode cX3_next 33 = .ok (.aload_n 0, 1) := dk_42 (dk_at dksX3_next_1 11 rfl rfl)
theorem dX3_next_34 : decode cX3_next 34 = .ok (.aload_n 0, 1) := dk_42 (dk_at dksX3_next_1 12 rfl rfl)
theorem dX3_next_35 : decode cX3_next 35 = .ok (.getfield 154, 3) := dk_180 0 154 (dk_at dksX3_next_1 13 rfl rfl)
theorem dX3_next_38 : decode cX3_next 38 = .ok (.putfield 164, 3) := dk_181 0 164 (dk_at dksX3_next_1 16 rfl rfl)
theorem dX3_next_41 : decode cX3_next 41 = .ok (.aload_n 0, 1) := dk_42 (dk_at dksX3_next_1 19 rfl rfl)
theorem dX3_next_42 : decode cX3_next 42 = .ok (.iconst 0, 1) := dk_3 (dk_at dksX3_next_1 20 rfl rfl)
theorem dX3_next_43 : decode cX3_next 43 = .ok (.invokevirtual 160, 3) := dk_182 0 160 (dk_at dksX3_next_1 21 rfl rfl)
theorem dX3_next_46 : decode cX3_next 46 = .ok (.istore_n 1, 1) := dk_60 (dk_at dksX3_next_2 0 rfl rfl)
theorem dX3_next_47 : decode cX3_next 47 = .ok (.iconst 0, 1) := dk_3 (dk_at dksX3_next_2 1 rfl rfl)
theorem dX3_next_48 : decode cX3_next 48 = .ok (.istore_n 2, 1) := dk_61 (dk_at dksX3_next_2 2 rfl rfl)
theorem dX3_next_49 : decode cX3_next 49 = .ok (.aload_n 0, 1) := dk_42 (dk_at dksX3_next_2 3 rfl rfl)
theorem dX3_next_50 : decode cX3_next 50 = .ok (.lconst 0, 1) := dk_9 (dk_at dksX3_next_2 4 rfl rfl)
theorem dX3_next_51 : decode cX3_next 51 = .ok (.putfield 167, 3) := dk_181 0 167 (dk_at dksX3_next_2 5 rfl rfl)
theorem dX3_next_54 : decode cX3_next 54 = .ok (.aload_n 0, 1) := dk_42 (dk_at dksX3_next_2 8 rfl rfl)
theorem dX3_next_55 : decode cX3_next 55 = .ok (.iconst 0, 1) := dk_3 (dk_at dksX3_next_2 9 rfl rfl)
theorem dX3_next_56 : decode cX3_next 56 = .ok (.putfield 171, 3) := dk_181 0 171 (dk_at dksX3_next_2 10 rfl rfl)
theorem dX3_next_59 : decode cX3_next 59 = .ok (.iload_n 1, 1) := dk_27 (dk_at dksX3_next_2 13 rfl rfl)
theorem dX3_next_60 : decode cX3_next 60 = .ok (.ifCond .ge 11, 3) := dk_156 0 11 (dk_at dksX3_next_2 14 rfl rfl)
theorem dX3_next_63 : decode cX3_next 63 = .ok (.aload_n 0, 1) := dk_42 (dk_at dksX3_next_2 17 rfl rfl)
theorem dX3_next_64 : decode cX3_next 64 = .ok (.iconst 0, 1) := dk_3 (dk_at dksX3_next_2 18 rfl rfl)
theorem dX3_next_65 : decode cX3_next 65 = .ok (.putfield 174, 3) := dk_181 0 174 (dk_at dksX3_next_2 19 rfl rfl)
theorem dX3_next_68 : decode cX3_next 68 = .ok (.goto 164, 3) := dk_167 0 164 (dk_at dksX3_next_3 0 rfl rfl)
theorem dX3_next_71 : decode cX3_next 71 = .ok (.iload_n 1, 1) := dk_27 (dk_at dksX3_next_3 3 rfl rfl)
theorem dX3_next_72 : decode cX3_next 72 = .ok (.invokestatic 177, 3) := dk_184 0 177 (dk_at dksX3_next_3 4 rfl rfl)
theorem dX3_next_75 : decode cX3_next 75 = .ok (.ifCond .eq 62, 3) := dk_153 0 62 (dk_at dksX3_next_3 7 rfl rfl)
theorem dX3_next_78 : decode cX3_next 78 = .ok (.aload_n 0, 1) := dk_42 (dk_at dksX3_next_3 10 rfl rfl)
theorem dX3_next_79 : decode cX3_next 79 = .ok (.iload_n 2, 1) := dk_28 (dk_at dksX3_next_3 11 rfl rfl)
theorem dX3_next_80 : decode cX3_next 80 = .ok (.invokevirtual 160, 3) := dk_182 0 160 (dk_at dksX3_next_3 12 rfl rfl)
theorem dX3_next_83 : decode cX3_next 83 = .ok (.invokestatic 177, 3) := dk_184 0 177 (dk_at dksX3_next_3 15 rfl rfl)
theorem dX3_next_86 : decode cX3_next 86 = .ok (.ifCond .eq 33, 3) := dk_153 0 33 (dk_at dksX3_next_3 18 rfl rfl)
theorem dX3_next_89 : decode cX3_next 89 = .ok (.iload_n 2, 1) := dk_28 (dk_at dksX3_next_3 21 rfl rfl)
theorem dX3_next_90 : decode cX3_next 90 = .ok (.bipush 8, 2) := dk_16 8 (dk_at dksX3_next_3 22 rfl rfl)
theorem dX3_next_92 : decode cX3_next 92 = .ok (.if_icmp .ge 21, 3) := dk_162 0 21 (dk_at dksX3_next_4 0 rfl rfl)
theorem dX3_next_95 : decode cX3_next 95 = .ok (.aload_n 0, 1) := dk_42 (dk_at dksX3_next_4 3 rfl rfl)
theorem dX3_next_96 : decode cX3_next 96 = .ok (.aload_n 0, 1) := dk_42 (dk_at dksX3_next_4 4 rfl rfl)
theorem dX3_next_97 : decode cX3_next 97 = .ok (.getfield 167, 3) := dk_180 0 167 (dk_at dksX3_next_4 5 rfl rfl)
theorem dX3_next_100 : decode cX3_next 100 = .ok (.bipush 8, 2) := dk_16 8 (dk_at dksX3_next_4 8 rfl rfl)
theorem dX3_next_102 : decode cX3_next 102 = .ok (.lshl, 1) := dk_121 (dk_at dksX3_next_4 10 rfl rfl)
theorem dX3_next_103 : decode cX3_next 103 = .ok (.aload_n 0, 1) := dk_42 (dk_at dksX3_next_4 11 rfl rfl)
theorem dX3_next_104 : decode cX3_next 104 = .ok (.iload_n 2, 1) := dk_28 (dk_at dksX3_next_4 12 rfl rfl)
theorem dX3_next_105 : decode cX3_next 105 = .ok (.invokevirtual 160, 3) := dk_182 0 160 (dk_at dksX3_next_4 13 rfl rfl)
theorem dX3_next_108 : decode cX3_next 108 = .ok (.i2l, 1) := dk_133 (dk_at dksX3_next_4 16 rfl rfl)
theorem dX3_next_109 : decode cX3_next 109 = .ok (.lor, 1) := dk_129 (dk_at dksX3_next_4 17 rfl rfl)
theorem dX3_next_110 : decode cX3_next 110 = .ok (.putfield 167, 3) := dk_181 0 167 (dk_at dksX3_next_4 18 rfl rfl)
theorem dX3_next_113 : decode cX3_next 113 = .ok (.iinc 2 1, 3) := dk_132 2 1 (dk_at dksX3_next_4 21 rfl rfl)
theorem dX3_next_116 : decode cX3_next 116 = .ok (.goto (-38), 3) := dk_167 255 218 (dk_at dksX3_next_5 0 rfl rfl)
theorem dX3_next_119 : decode cX3_next 119 = .ok (.aload_n 0, 1) := dk_42 (dk_at dksX3_next_5 3 rfl rfl)
theorem dX3_next_120 : decode cX3_next 120 = .ok (.iload_n 2, 1) := dk_28 (dk_at dksX3_next_5 4 rfl rfl)
theorem dX3_next_121 : decode cX3_next 121 = .ok (.bipush 8, 2) := dk_16 8 (dk_at dksX3_next_5 5 rfl rfl)
theorem dX3_next_123 : decode cX3_next 123 = .ok (.if_icmp .le 7, 3) := dk_164 0 7 (dk_at dksX3_next_5 7 rfl rfl)
theorem dX3_next_126 : decode cX3_next 126 = .ok (.iconst 3, 1) := dk_6 (dk_at dksX3_next_5 10 rfl rfl)
theorem dX3_next_127 : decode cX3_next 127 = .ok (.goto 4, 3) := dk_167 0 4 (dk_at dksX3_next_5 11 rfl rfl)
theorem dX3_next_130 : decode cX3_next 130 = .ok (.iconst 1, 1) := dk_4 (dk_at dksX3_next_5 14 rfl rfl)
theorem dX3_next_131 : decode cX3_next 131 = .ok (.putfield 174, 3) := dk_181 0 174 (dk_at dksX3_next_5 15 rfl rfl)
theorem dX3_next_134 : decode cX3_next 134 = .ok (.goto 98, 3) := dk_167 0 98 (dk_at dksX3_next_5 18 rfl rfl)
theorem dX3_next_137 : decode cX3_next 137 = .ok (.iload_n 1, 1) := dk_27 (dk_at dksX3_next_5 21 rfl rfl)
theorem dX3_next_138 : decode cX3_next 138 = .ok (.invokestatic 181, 3) := dk_184 0 181 (dk_at dksX3_next_6 0 rfl rfl)
theorem dX3_next_141 : decode cX3_next 141 = .ok (.ifCond .eq 73, 3) := dk_153 0 73 (dk_at dksX3_next_6 3 rfl rfl)
theorem dX3_next_144 : decode cX3_next 144 = .ok (.aload_n 0, 1) := dk_42 (dk_at dksX3_next_6 6 rfl rfl)
theorem dX3_next_145 : decode cX3_next 145 = .ok (.iload_n 2, 1) := dk_28 (dk_at dksX3_next_6 7 rfl rfl)
theorem dX3_next_146 : decode cX3_next 146 = .ok (.invokevirtual 160, 3) := dk_182 0 160 (dk_at dksX3_next_6 8 rfl rfl)
theorem dX3_next_149 : decode cX3_next 149 = .ok (.invokestatic 181, 3) := dk_184 0 181 (dk_at dksX3_next_6 11 rfl rfl)
theorem dX3_next_152 : decode cX3_next 152 = .ok (.ifCond .eq 34, 3) := dk_153 0 34 (dk_at dksX3_next_6 14 rfl rfl)
theorem dX3_next_155 : decode cX3_next 155 = .ok (.iload_n 2, 1) := dk_28 (dk_at dksX3_next_6 17 rfl rfl)
theorem dX3_next_156 : decode cX3_next 156 = .ok (.iconst 4, 1) := dk_7 (dk_at dksX3_next_6 18 rfl rfl)
theorem dX3_next_157 : decode cX3_next 157 = .ok (.if_icmp .ge 23, 3) := dk_162 0 23 (dk_at dksX3_next_6 19 rfl rfl)
theorem dX3_next_160 : decode cX3_next 160 = .ok (.aload_n 0, 1) := dk_42 (dk_at dksX3_next_6 22 rfl rfl)
theorem dX3_next_161 : decode cX3_next 161 = .ok (.bipush 10, 2) := dk_16 10 (dk_at dksX3_next_7 0 rfl rfl)
theorem dX3_next_163 : decode cX3_next 163 = .ok (.aload_n 0, 1) := dk_42 (dk_at dksX3_next_7 2 rfl rfl)
theorem dX3_next_164 : decode cX3_next 164 = .ok (.getfield 171, 3) := dk_180 0 171 (dk_at dksX3_next_7 3 rfl rfl)
theorem dX3_next_167 : decode cX3_next 167 = .ok (.imul, 1) := dk_104 (dk_at dksX3_next_7 6 rfl rfl)
theorem dX3_next_168 : decode cX3_next 168 = .ok (.aload_n 0, 1) := dk_42 (dk_at dksX3_next_7 7 rfl rfl)
theorem dX3_next_169 : decode cX3_next 169 = .ok (.iload_n 2, 1) := dk_28 (dk_at dksX3_next_7 8 rfl rfl)
theorem dX3_next_170 : decode cX3_next 170 = .ok (.invokevirtual 160, 3) := dk_182 0 160 (dk_at dksX3_next_7 9 rfl rfl)
theorem dX3_next_173 : decode cX3_next 173 = .ok (.iadd, 1) := dk_96 (dk_at dksX3_next_7 12 rfl rfl)
theorem dX3_next_174 : decode cX3_next 174 = .ok (.bipush 48, 2) := dk_16 48 (dk_at dksX3_next_7 13 rfl rfl)
theorem dX3_next_176 : decode cX3_next 176 = .ok (.isub, 1) := dk_100 (dk_at dksX3_next_7 15 rfl rfl)
theorem dX3_next_177 : decode cX3_next 177 = .ok (.putfield 171, 3) := dk_181 0 171 (dk_at dksX3_next_7 16 rfl rfl)
theorem dX3_next_180 : decode cX3_next 180 = .ok (.iinc 2 1, 3) := dk_132 2 1 (dk_at dksX3_next_7 19 rfl rfl)
theorem dX3_next_183 : decode cX3_next 183 = .ok (.goto (-39), 3) := dk_167 255 217 (dk_at dksX3_next_8 0 rfl rfl)
theorem dX3_next_186 : decode cX3_next 186 = .ok (.aload_n 0, 1) := dk_42 (dk_at dksX3_next_8 3 rfl rfl)
theorem dX3_next_187 : decode cX3_next 187 = .ok (.iload_n 2, 1) := dk_28 (dk_at dksX3_next_8 4 rfl rfl)
theorem dX3_next_188 : decode cX3_next 188 = .ok (.iconst 4, 1) := dk_7 (dk_at dksX3_next_8 5 rfl rfl)
theorem dX3_next_189 : decode cX3_next 189 = .ok (.if_icmp .gt 14, 3) := dk_163 0 14 (dk_at dksX3_next_8 6 rfl rfl)
theorem dX3_next_192 : decode cX3_next 192 = .ok (.aload_n 0, 1) := dk_42 (dk_at dksX3_next_8 9 rfl rfl)
theorem dX3_next_193 : decode cX3_next 193 = .ok (.iload_n 2, 1) := dk_28 (dk_at dksX3_next_8 10 rfl rfl)
theorem dX3_next_194 : decode cX3_next 194 = .ok (.invokevirtual 160, 3) := dk_182 0 160 (dk_at dksX3_next_8 11 rfl rfl)
theorem dX3_next_197 : decode cX3_next 197 = .ok (.invokestatic 177, 3) := dk_184 0 177 (dk_at dksX3_next_8 14 rfl rfl)
theorem dX3_next_200 : decode cX3_next 200 = .ok (.ifCond .eq 7, 3) := dk_153 0 7 (dk_at dksX3_next_8 17 rfl rfl)
theorem dX3_next_203 : decode cX3_next 203 = .ok (.iconst 3, 1) := dk_6 (dk_at dksX3_next_8 20 rfl rfl)
theorem dX3_next_204 : decode cX3_next 204 = .ok (.goto 4, 3) := dk_167 0 4 (dk_at dksX3_next_8 21 rfl rfl)
theorem dX3_next_207 : decode cX3_next 207 = .ok (.iconst 2, 1) := dk_5 (dk_at dksX3_next_9 0 rfl rfl)
theorem dX3_next_208 : decode cX3_next 208 = .ok (.putfield 174, 3) := dk_181 0 174 (dk_at dksX3_next_9 1 rfl rfl)
theorem dX3_next_211 : decode cX3_next 211 = .ok (.goto 21, 3) := dk_167 0 21 (dk_at dksX3_next_9 4 rfl rfl)
theorem dX3_next_214 : decode cX3_next 214 = .ok (.iconst 1, 1) := dk_4 (dk_at dksX3_next_9 7 rfl rfl)
theorem dX3_next_215 : decode cX3_next 215 = .ok (.istore_n 2, 1) := dk_61 (dk_at dksX3_next_9 8 rfl rfl)
theorem dX3_next_216 : decode cX3_next 216 = .ok (.aload_n 0, 1) := dk_42 (dk_at dksX3_next_9 9 rfl rfl)
theorem dX3_next_217 : decode cX3_next 217 = .ok (.iload_n 1, 1) := dk_27 (dk_at dksX3_next_9 10 rfl rfl)
theorem dX3_next_218 : decode cX3_next 218 = .ok (.invokestatic 184, 3) := dk_184 0 184 (dk_at dksX3_next_9 11 rfl rfl)
theorem dX3_next_221 : decode cX3_next 221 = .ok (.ifCond .eq 7, 3) := dk_153 0 7 (dk_at dksX3_next_9 14 rfl rfl)
theorem dX3_next_224 : decode cX3_next 224 = .ok (.iload_n 1, 1) := dk_27 (dk_at dksX3_next_9 17 rfl rfl)
theorem dX3_next_225 : decode cX3_next 225 = .ok (.goto 4, 3) := dk_167 0 4 (dk_at dksX3_next_9 18 rfl rfl)
theorem dX3_next_228 : decode cX3_next 228 = .ok (.iconst 3, 1) := dk_6 (dk_at dksX3_next_9 21 rfl rfl)
theorem dX3_next_229 : decode cX3_next 229 = .ok (.putfield 174, 3) := dk_181 0 174 (dk_at dksX3_next_10 0 rfl rfl)
theorem dX3_next_232 : decode cX3_next 232 = .ok (.aload_n 0, 1) := dk_42 (dk_at dksX3_next_10 3 rfl rfl)
theorem dX3_next_233 : decode cX3_next 233 = .ok (.getfield 174, 3) := dk_180 0 174 (dk_at dksX3_next_10 4 rfl rfl)
theorem dX3_next_236 : decode cX3_next 236 = .ok (.iconst 3, 1) := dk_6 (dk_at dksX3_next_10 7 rfl rfl)
theorem dX3_next_237 : decode cX3_next 237 = .ok (.if_icmp .eq 13, 3) := dk_159 0 13 (dk_at dksX3_next_10 8 rfl rfl)
theorem dX3_next_240 : decode cX3_next 240 = .ok (.aload_n 0, 1) := dk_42 (dk_at dksX3_next_10 11 rfl rfl)
theorem dX3_next_241 : decode cX3_next 241 = .ok (.dup, 1) := dk_89 (dk_at dksX3_next_10 12 rfl rfl)
theorem dX3_next_242 : decode cX3_next 242 = .ok (.getfield 154, 3) := dk_180 0 154 (dk_at dksX3_next_10 13 rfl rfl)
theorem dX3_next_245 : decode cX3_next 245 = .ok (.iload_n 2, 1) := dk_28 (dk_at dksX3_next_10 16 rfl rfl)
theorem dX3_next_246 : decode cX3_next 246 = .ok (.iadd, 1) := dk_96 (dk_at dksX3_next_10 17 rfl rfl)
theorem dX3_next_247 : decode cX3_next 247 = .ok (.putfield 154, 3) := dk_181 0 154 (dk_at dksX3_next_10 18 rfl rfl)
theorem dX3_next_250 : decode cX3_next 250 = .ok (.return_, 1) := dk_177 (dk_at dksX3_next_10 21 rfl rfl)
abbrev cX3_here : ByteArray := prog_16_method_11_code
def yX3_here : MethodName := ⟨RX3, "here", "(I)I"⟩
def dkwX3_here_1 : List UInt8 := [167, 0, 4, 2, 172]
abbrev dktX3_here_1 : List UInt8 := dkwX3_here_1 ++ []
def dkwX3_here_0 : List UInt8 := [42, 180, 0, 154, 27, 96, 42, 180, 0, 157, 162, 0, 17, 42, 180, 0, 13, 42, 180, 0, 154, 27, 96, 46]
abbrev dktX3_here_0 : List UInt8 := dkwX3_here_0 ++ dktX3_here_1
theorem dksX3_here_0 : cX3_here.data.toList.drop 0 = dktX3_here_0 := by decide +kernel
theorem dksX3_here_1 : cX3_here.data.toList.drop 24 = dktX3_here_1 := dk_seg dksX3_here_0 24 rfl rfl
theorem dX3_here_0 : decode cX3_here 0 = .ok (.aload_n 0, 1) := dk_42 (dk_at dksX3_here_0 0 rfl rfl)
theorem dX3_here_1 : decode cX3_here 1 = .ok (.getfield 154, 3) := dk_180 0 154 (dk_at dksX3_here_0 1 rfl rfl)
theorem dX3_here_4 : decode cX3_here 4 = .ok (.iload_n 1, 1) := dk_27 (dk_at dksX3_here_0 4 rfl rfl)
theorem dX3_here_5 : decode cX3_here 5 = .ok (.iadd, 1) := dk_96 (dk_at dksX3_here_0 5 rfl rfl)
theorem dX3_here_6 : decode cX3_here 6 = .ok (.aload_n 0, 1) := dk_42 (dk_at dksX3_here_0 6 rfl rfl)
theorem dX3_here_7 : decode cX3_here 7 = .ok (.getfield 157, 3) := dk_180 0 157 (dk_at dksX3_here_0 7 rfl rfl)
theorem dX3_here_10 : decode cX3_here 10 = .ok (.if_icmp .ge 17, 3) := dk_162 0 17 (dk_at dksX3_here_0 10 rfl rfl)
theorem dX3_here_13 : decode cX3_here 13 = .ok (.aload_n 0, 1) := dk_42 (dk_at dksX3_here_0 13 rfl rfl)
theorem dX3_here_14 : decode cX3_here 14 = .ok (.getfield 13, 3) := dk_180 0 13 (dk_at dksX3_here_0 14 rfl rfl)
theorem dX3_here_17 : decode cX3_here 17 = .ok (.aload_n 0, 1) := dk_42 (dk_at dksX3_here_0 17 rfl rfl)
theorem dX3_here_18 : decode cX3_here 18 = .ok (.getfield 154, 3) := dk_180 0 154 (dk_at dksX3_here_0 18 rfl rfl)
theorem dX3_here_21 : decode cX3_here 21 = .ok (.iload_n 1, 1) := dk_27 (dk_at dksX3_here_0 21 rfl rfl)
theorem dX3_here_22 : decode cX3_here 22 = .ok (.iadd, 1) := dk_96 (dk_at dksX3_here_0 22 rfl rfl)
theorem dX3_here_23 : decode cX3_here 23 = .ok (.iaload, 1) := dk_46 (dk_at dksX3_here_0 23 rfl rfl)
theorem dX3_here_24 : decode cX3_here 24 = .ok (.goto 4, 3) := dk_167 0 4 (dk_at dksX3_here_1 0 rfl rfl)
theorem dX3_here_27 : decode cX3_here 27 = .ok (.iconst (-1), 1) := dk_2 (dk_at dksX3_here_1 3 rfl rfl)
theorem dX3_here_28 : decode cX3_here 28 = .ok (.ireturn, 1) := dk_172 (dk_at dksX3_here_1 4 rfl rfl)
abbrev cX3_isLetter : ByteArray := prog_16_method_12_code
def yX3_isLetter : MethodName := ⟨RX3, "isLetter", "(I)Z"⟩
def dkwX3_isLetter_0 : List UInt8 := [26, 16, 97, 161, 0, 13, 26, 16, 122, 163, 0, 7, 4, 167, 0, 4, 3, 172]
abbrev dktX3_isLetter_0 : List UInt8 := dkwX3_isLetter_0 ++ []
theorem dksX3_isLetter_0 : cX3_isLetter.data.toList.drop 0 = dktX3_isLetter_0 := by decide +kernel
theorem dX3_isLetter_0 : decode cX3_isLetter 0 = .ok (.iload_n 0, 1) := dk_26 (dk_at dksX3_isLetter_0 0 rfl rfl)
theorem dX3_isLetter_1 : decode cX3_isLetter 1 = .ok (.bipush 97, 2) := dk_16 97 (dk_at dksX3_isLetter_0 1 rfl rfl)
theorem dX3_isLetter_3 : decode cX3_isLetter 3 = .ok (.if_icmp .lt 13, 3) := dk_161 0 13 (dk_at dksX3_isLetter_0 3 rfl rfl)
theorem dX3_isLetter_6 : decode cX3_isLetter 6 = .ok (.iload_n 0, 1) := dk_26 (dk_at dksX3_isLetter_0 6 rfl rfl)
theorem dX3_isLetter_7 : decode cX3_isLetter 7 = .ok (.bipush 122, 2) := dk_16 122 (dk_at dksX3_isLetter_0 7 rfl rfl)
theorem dX3_isLetter_9 : decode cX3_isLetter 9 = .ok (.if_icmp .gt 7, 3) := dk_163 0 7 (dk_at dksX3_isLetter_0 9 rfl rfl)
theorem dX3_isLetter_12 : decode cX3_isLetter 12 = .ok (.iconst 1, 1) := dk_4 (dk_at dksX3_isLetter_0 12 rfl rfl)
theorem dX3_isLetter_13 : decode cX3_isLetter 13 = .ok (.goto 4, 3) := dk_167 0 4 (dk_at dksX3_isLetter_0 13 rfl rfl)
theorem dX3_isLetter_16 : decode cX3_isLetter 16 = .ok (.iconst 0, 1) := dk_3 (dk_at dksX3_isLetter_0 16 rfl rfl)
theorem dX3_isLetter_17 : decode cX3_isLetter 17 = .ok (.ireturn, 1) := dk_172 (dk_at dksX3_isLetter_0 17 rfl rfl)
abbrev cX3_isDigit : ByteArray := prog_16_method_13_code
def yX3_isDigit : MethodName := ⟨RX3, "isDigit", "(I)Z"⟩
def dkwX3_isDigit_0 : List UInt8 := [26, 16, 48, 161, 0, 13, 26, 16, 57, 163, 0, 7, 4, 167, 0, 4, 3, 172]
abbrev dktX3_isDigit_0 : List UInt8 := dkwX3_isDigit_0 ++ []
theorem dksX3_isDigit_0 : cX3_isDigit.data.toList.drop 0 = dktX3_isDigit_0 := by decide +kernel
theorem dX3_isDigit_0 : decode cX3_isDigit 0 = .ok (.iload_n 0, 1) := dk_26 (dk_at dksX3_isDigit_0 0 rfl rfl)
theorem dX3_isDigit_1 : decode cX3_isDigit 1 = .ok (.bipush 48, 2) := dk_16 48 (dk_at dksX3_isDigit_0 1 rfl rfl)
theorem dX3_isDigit_3 : decode cX3_isDigit 3 = .ok (.if_icmp .lt 13, 3) := dk_161 0 13 (dk_at dksX3_isDigit_0 3 rfl rfl)
theorem dX3_isDigit_6 : decode cX3_isDigit 6 = .ok (.iload_n 0, 1) := dk_26 (dk_at dksX3_isDigit_0 6 rfl rfl)
theorem dX3_isDigit_7 : decode cX3_isDigit 7 = .ok (.bipush 57, 2) := dk_16 57 (dk_at dksX3_isDigit_0 7 rfl rfl)
theorem dX3_isDigit_9 : decode cX3_isDigit 9 = .ok (.if_icmp .gt 7, 3) := dk_163 0 7 (dk_at dksX3_isDigit_0 9 rfl rfl)
theorem dX3_isDigit_12 : decode cX3_isDigit 12 = .ok (.iconst 1, 1) := dk_4 (dk_at dksX3_isDigit_0 12 rfl rfl)
theorem dX3_isDigit_13 : decode cX3_isDigit 13 = .ok (.goto 4, 3) := dk_167 0 4 (dk_at dksX3_isDigit_0 13 rfl rfl)
theorem dX3_isDigit_16 : decode cX3_isDigit 16 = .ok (.iconst 0, 1) := dk_3 (dk_at dksX3_isDigit_0 16 rfl rfl)
theorem dX3_isDigit_17 : decode cX3_isDigit 17 = .ok (.ireturn, 1) := dk_172 (dk_at dksX3_isDigit_0 17 rfl rfl)
abbrev cX3_isSign : ByteArray := prog_16_method_14_code
def yX3_isSign : MethodName := ⟨RX3, "isSign", "(I)Z"⟩
def dkwX3_isSign_2 : List UInt8 := [4, 167, 0, 4, 3, 172]
abbrev dktX3_isSign_2 : List UInt8 := dkwX3_isSign_2 ++ []
def dkwX3_isSign_1 : List UInt8 := [26, 16, 62, 159, 0, 21, 26, 16, 61, 159, 0, 15, 26, 16, 43, 159, 0, 9, 26, 16, 45, 160, 0, 7]
abbrev dktX3_isSign_1 : List UInt8 := dkwX3_isSign_1 ++ dktX3_isSign_2
def dkwX3_isSign_0 : List UInt8 := [26, 16, 59, 159, 0, 45, 26, 16, 40, 159, 0, 39, 26, 16, 41, 159, 0, 33, 26, 16, 60, 159, 0, 27]
abbrev dktX3_isSign_0 : List UInt8 := dkwX3_isSign_0 ++ dktX3_isSign_1
theorem dksX3_isSign_0 : cX3_isSign.data.toList.drop 0 = dktX3_isSign_0 := by decide +kernel
theorem dksX3_isSign_1 : cX3_isSign.data.toList.drop 24 = dktX3_isSign_1 := dk_seg dksX3_isSign_0 24 rfl rfl
theorem dksX3_isSign_2 : cX3_isSign.data.toList.drop 48 = dktX3_isSign_2 := dk_seg dksX3_isSign_1 24 rfl rfl
theorem dX3_isSign_0 : decode cX3_isSign 0 = .ok (.iload_n 0, 1) := dk_26 (dk_at dksX3_isSign_0 0 rfl rfl)
theorem dX3_isSign_1 : decode cX3_isSign 1 = .ok (.bipush 59, 2) := dk_16 59 (dk_at dksX3_isSign_0 1 rfl rfl)
theorem dX3_isSign_3 : decode cX3_isSign 3 = .ok (.if_icmp .eq 45, 3) := dk_159 0 45 (dk_at dksX3_isSign_0 3 rfl rfl)
theorem dX3_isSign_6 : decode cX3_isSign 6 = .ok (.iload_n 0, 1) := dk_26 (dk_at dksX3_isSign_0 6 rfl rfl)
theorem dX3_isSign_7 : decode cX3_isSign 7 = .ok (.bipush 40, 2) := dk_16 40 (dk_at dksX3_isSign_0 7 rfl rfl)
theorem dX3_isSign_9 : decode cX3_isSign 9 = .ok (.if_icmp .eq 39, 3) := dk_159 0 39 (dk_at dksX3_isSign_0 9 rfl rfl)
theorem dX3_isSign_12 : decode cX3_isSign 12 = .ok (.iload_n 0, 1) := dk_26 (dk_at dksX3_isSign_0 12 rfl rfl)
theorem dX3_isSign_13 : decode cX3_isSign 13 = .ok (.bipush 41, 2) := dk_16 41 (dk_at dksX3_isSign_0 13 rfl rfl)
theorem dX3_isSign_15 : decode cX3_isSign 15 = .ok (.if_icmp .eq 33, 3) := dk_159 0 33 (dk_at dksX3_isSign_0 15 rfl rfl)
theorem dX3_isSign_18 : decode cX3_isSign 18 = .ok (.iload_n 0, 1) := dk_26 (dk_at dksX3_isSign_0 18 rfl rfl)
theorem dX3_isSign_19 : decode cX3_isSign 19 = .ok (.bipush 60, 2) := dk_16 60 (dk_at dksX3_isSign_0 19 rfl rfl)
theorem dX3_isSign_21 : decode cX3_isSign 21 = .ok (.if_icmp .eq 27, 3) := dk_159 0 27 (dk_at dksX3_isSign_0 21 rfl rfl)
theorem dX3_isSign_24 : decode cX3_isSign 24 = .ok (.iload_n 0, 1) := dk_26 (dk_at dksX3_isSign_1 0 rfl rfl)
theorem dX3_isSign_25 : decode cX3_isSign 25 = .ok (.bipush 62, 2) := dk_16 62 (dk_at dksX3_isSign_1 1 rfl rfl)
theorem dX3_isSign_27 : decode cX3_isSign 27 = .ok (.if_icmp .eq 21, 3) := dk_159 0 21 (dk_at dksX3_isSign_1 3 rfl rfl)
theorem dX3_isSign_30 : decode cX3_isSign 30 = .ok (.iload_n 0, 1) := dk_26 (dk_at dksX3_isSign_1 6 rfl rfl)
theorem dX3_isSign_31 : decode cX3_isSign 31 = .ok (.bipush 61, 2) := dk_16 61 (dk_at dksX3_isSign_1 7 rfl rfl)
theorem dX3_isSign_33 : decode cX3_isSign 33 = .ok (.if_icmp .eq 15, 3) := dk_159 0 15 (dk_at dksX3_isSign_1 9 rfl rfl)
theorem dX3_isSign_36 : decode cX3_isSign 36 = .ok (.iload_n 0, 1) := dk_26 (dk_at dksX3_isSign_1 12 rfl rfl)
theorem dX3_isSign_37 : decode cX3_isSign 37 = .ok (.bipush 43, 2) := dk_16 43 (dk_at dksX3_isSign_1 13 rfl rfl)
theorem dX3_isSign_39 : decode cX3_isSign 39 = .ok (.if_icmp .eq 9, 3) := dk_159 0 9 (dk_at dksX3_isSign_1 15 rfl rfl)
theorem dX3_isSign_42 : decode cX3_isSign 42 = .ok (.iload_n 0, 1) := dk_26 (dk_at dksX3_isSign_1 18 rfl rfl)
theorem dX3_isSign_43 : decode cX3_isSign 43 = .ok (.bipush 45, 2) := dk_16 45 (dk_at dksX3_isSign_1 19 rfl rfl)
theorem dX3_isSign_45 : decode cX3_isSign 45 = .ok (.if_icmp .ne 7, 3) := dk_160 0 7 (dk_at dksX3_isSign_1 21 rfl rfl)
theorem dX3_isSign_48 : decode cX3_isSign 48 = .ok (.iconst 1, 1) := dk_4 (dk_at dksX3_isSign_2 0 rfl rfl)
theorem dX3_isSign_49 : decode cX3_isSign 49 = .ok (.goto 4, 3) := dk_167 0 4 (dk_at dksX3_isSign_2 1 rfl rfl)
theorem dX3_isSign_52 : decode cX3_isSign 52 = .ok (.iconst 0, 1) := dk_3 (dk_at dksX3_isSign_2 4 rfl rfl)
theorem dX3_isSign_53 : decode cX3_isSign 53 = .ok (.ireturn, 1) := dk_172 (dk_at dksX3_isSign_2 5 rfl rfl)
abbrev cX3_isWord : ByteArray := prog_16_method_17_code
def yX3_isWord : MethodName := ⟨RX3, "isWord", "(J)Z"⟩
def dkwX3_isWord_0 : List UInt8 := [42, 180, 0, 174, 4, 160, 0, 16, 42, 180, 0, 167, 31, 148, 154, 0, 7, 4, 167, 0, 4, 3, 172]
abbrev dktX3_isWord_0 : List UInt8 := dkwX3_isWord_0 ++ []
theorem dksX3_isWord_0 : cX3_isWord.data.toList.drop 0 = dktX3_isWord_0 := by decide +kernel
theorem dX3_isWord_0 : decode cX3_isWord 0 = .ok (.aload_n 0, 1) := dk_42 (dk_at dksX3_isWord_0 0 rfl rfl)
theorem dX3_isWord_1 : decode cX3_isWord 1 = .ok (.getfield 174, 3) := dk_180 0 174 (dk_at dksX3_isWord_0 1 rfl rfl)
theorem dX3_isWord_4 : decode cX3_isWord 4 = .ok (.iconst 1, 1) := dk_4 (dk_at dksX3_isWord_0 4 rfl rfl)
theorem dX3_isWord_5 : decode cX3_isWord 5 = .ok (.if_icmp .ne 16, 3) := dk_160 0 16 (dk_at dksX3_isWord_0 5 rfl rfl)
theorem dX3_isWord_8 : decode cX3_isWord 8 = .ok (.aload_n 0, 1) := dk_42 (dk_at dksX3_isWord_0 8 rfl rfl)
theorem dX3_isWord_9 : decode cX3_isWord 9 = .ok (.getfield 167, 3) := dk_180 0 167 (dk_at dksX3_isWord_0 9 rfl rfl)
theorem dX3_isWord_12 : decode cX3_isWord 12 = .ok (.lload_n 1, 1) := dk_31 (dk_at dksX3_isWord_0 12 rfl rfl)
theorem dX3_isWord_13 : decode cX3_isWord 13 = .ok (.lcmp, 1) := dk_148 (dk_at dksX3_isWord_0 13 rfl rfl)
theorem dX3_isWord_14 : decode cX3_isWord 14 = .ok (.ifCond .ne 7, 3) := dk_154 0 7 (dk_at dksX3_isWord_0 14 rfl rfl)
theorem dX3_isWord_17 : decode cX3_isWord 17 = .ok (.iconst 1, 1) := dk_4 (dk_at dksX3_isWord_0 17 rfl rfl)
theorem dX3_isWord_18 : decode cX3_isWord 18 = .ok (.goto 4, 3) := dk_167 0 4 (dk_at dksX3_isWord_0 18 rfl rfl)
theorem dX3_isWord_21 : decode cX3_isWord 21 = .ok (.iconst 0, 1) := dk_3 (dk_at dksX3_isWord_0 21 rfl rfl)
theorem dX3_isWord_22 : decode cX3_isWord 22 = .ok (.ireturn, 1) := dk_172 (dk_at dksX3_isWord_0 22 rfl rfl)
abbrev cX3_wrong : ByteArray := prog_16_method_16_code
def yX3_wrong : MethodName := ⟨RX3, "wrong", "(I)V"⟩
def dkwX3_wrong_1 : List UInt8 := [181, 0, 187, 42, 42, 180, 0, 164, 181, 0, 16, 177]
abbrev dktX3_wrong_1 : List UInt8 := dkwX3_wrong_1 ++ []
def dkwX3_wrong_0 : List UInt8 := [42, 180, 0, 187, 158, 0, 4, 177, 42, 42, 180, 0, 174, 6, 160, 0, 7, 4, 167, 0, 4, 27]
abbrev dktX3_wrong_0 : List UInt8 := dkwX3_wrong_0 ++ dktX3_wrong_1
theorem dksX3_wrong_0 : cX3_wrong.data.toList.drop 0 = dktX3_wrong_0 := by decide +kernel
theorem dksX3_wrong_1 : cX3_wrong.data.toList.drop 22 = dktX3_wrong_1 := dk_seg dksX3_wrong_0 22 rfl rfl
theorem dX3_wrong_0 : decode cX3_wrong 0 = .ok (.aload_n 0, 1) := dk_42 (dk_at dksX3_wrong_0 0 rfl rfl)
theorem dX3_wrong_1 : decode cX3_wrong 1 = .ok (.getfield 187, 3) := dk_180 0 187 (dk_at dksX3_wrong_0 1 rfl rfl)
theorem dX3_wrong_4 : decode cX3_wrong 4 = .ok (.ifCond .le 4, 3) := dk_158 0 4 (dk_at dksX3_wrong_0 4 rfl rfl)
theorem dX3_wrong_7 : decode cX3_wrong 7 = .ok (.return_, 1) := dk_177 (dk_at dksX3_wrong_0 7 rfl rfl)
theorem dX3_wrong_8 : decode cX3_wrong 8 = .ok (.aload_n 0, 1) := dk_42 (dk_at dksX3_wrong_0 8 rfl rfl)
theorem dX3_wrong_9 : decode cX3_wrong 9 = .ok (.aload_n 0, 1) := dk_42 (dk_at dksX3_wrong_0 9 rfl rfl)
theorem dX3_wrong_10 : decode cX3_wrong 10 = .ok (.getfield 174, 3) := dk_180 0 174 (dk_at dksX3_wrong_0 10 rfl rfl)
theorem dX3_wrong_13 : decode cX3_wrong 13 = .ok (.iconst 3, 1) := dk_6 (dk_at dksX3_wrong_0 13 rfl rfl)
theorem dX3_wrong_14 : decode cX3_wrong 14 = .ok (.if_icmp .ne 7, 3) := dk_160 0 7 (dk_at dksX3_wrong_0 14 rfl rfl)
theorem dX3_wrong_17 : decode cX3_wrong 17 = .ok (.iconst 1, 1) := dk_4 (dk_at dksX3_wrong_0 17 rfl rfl)
theorem dX3_wrong_18 : decode cX3_wrong 18 = .ok (.goto 4, 3) := dk_167 0 4 (dk_at dksX3_wrong_0 18 rfl rfl)
theorem dX3_wrong_21 : decode cX3_wrong 21 = .ok (.iload_n 1, 1) := dk_27 (dk_at dksX3_wrong_0 21 rfl rfl)
theorem dX3_wrong_22 : decode cX3_wrong 22 = .ok (.putfield 187, 3) := dk_181 0 187 (dk_at dksX3_wrong_1 0 rfl rfl)
theorem dX3_wrong_25 : decode cX3_wrong 25 = .ok (.aload_n 0, 1) := dk_42 (dk_at dksX3_wrong_1 3 rfl rfl)
theorem dX3_wrong_26 : decode cX3_wrong 26 = .ok (.aload_n 0, 1) := dk_42 (dk_at dksX3_wrong_1 4 rfl rfl)
theorem dX3_wrong_27 : decode cX3_wrong 27 = .ok (.getfield 164, 3) := dk_180 0 164 (dk_at dksX3_wrong_1 5 rfl rfl)
theorem dX3_wrong_30 : decode cX3_wrong 30 = .ok (.putfield 16, 3) := dk_181 0 16 (dk_at dksX3_wrong_1 8 rfl rfl)
theorem dX3_wrong_33 : decode cX3_wrong 33 = .ok (.return_, 1) := dk_177 (dk_at dksX3_wrong_1 11 rfl rfl)
abbrev cX3_told : ByteArray := prog_16_method_20_code
def yX3_told : MethodName := ⟨RX3, "told", "(II)I"⟩
def dkwX3_told_2 : List UInt8 := [154, 0, 7, 42, 182, 0, 206, 29, 172]
abbrev dktX3_told_2 : List UInt8 := dkwX3_told_2 ++ []
def dkwX3_told_1 : List UInt8 := [42, 180, 0, 171, 28, 164, 0, 8, 42, 6, 182, 0, 203, 42, 180, 0, 171, 62, 42, 180, 0, 187]
abbrev dktX3_told_1 : List UInt8 := dkwX3_told_1 ++ dktX3_told_2
def dkwX3_told_0 : List UInt8 := [42, 180, 0, 174, 5, 159, 0, 11, 42, 5, 182, 0, 203, 167, 0, 24, 42, 180, 0, 171, 27, 161, 0, 11]
abbrev dktX3_told_0 : List UInt8 := dkwX3_told_0 ++ dktX3_told_1
theorem dksX3_told_0 : cX3_told.data.toList.drop 0 = dktX3_told_0 := by decide +kernel
theorem dksX3_told_1 : cX3_told.data.toList.drop 24 = dktX3_told_1 := dk_seg dksX3_told_0 24 rfl rfl
theorem dksX3_told_2 : cX3_told.data.toList.drop 46 = dktX3_told_2 := dk_seg dksX3_told_1 22 rfl rfl
theorem dX3_told_0 : decode cX3_told 0 = .ok (.aload_n 0, 1) := dk_42 (dk_at dksX3_told_0 0 rfl rfl)
theorem dX3_told_1 : decode cX3_told 1 = .ok (.getfield 174, 3) := dk_180 0 174 (dk_at dksX3_told_0 1 rfl rfl)
theorem dX3_told_4 : decode cX3_told 4 = .ok (.iconst 2, 1) := dk_5 (dk_at dksX3_told_0 4 rfl rfl)
theorem dX3_told_5 : decode cX3_told 5 = .ok (.if_icmp .eq 11, 3) := dk_159 0 11 (dk_at dksX3_told_0 5 rfl rfl)
theorem dX3_told_8 : decode cX3_told 8 = .ok (.aload_n 0, 1) := dk_42 (dk_at dksX3_told_0 8 rfl rfl)
theorem dX3_told_9 : decode cX3_told 9 = .ok (.iconst 2, 1) := dk_5 (dk_at dksX3_told_0 9 rfl rfl)
theorem dX3_told_10 : decode cX3_told 10 = .ok (.invokevirtual 203, 3) := dk_182 0 203 (dk_at dksX3_told_0 10 rfl rfl)
theorem dX3_told_13 : decode cX3_told 13 = .ok (.goto 24, 3) := dk_167 0 24 (dk_at dksX3_told_0 13 rfl rfl)
theorem dX3_told_16 : decode cX3_told 16 = .ok (.aload_n 0, 1) := dk_42 (dk_at dksX3_told_0 16 rfl rfl)
theorem dX3_told_17 : decode cX3_told 17 = .ok (.getfield 171, 3) := dk_180 0 171 (dk_at dksX3_told_0 17 rfl rfl)
theorem dX3_told_20 : decode cX3_told 20 = .ok (.iload_n 1, 1) := dk_27 (dk_at dksX3_told_0 20 rfl rfl)
theorem dX3_told_21 : decode cX3_told 21 = .ok (.if_icmp .lt 11, 3) := dk_161 0 11 (dk_at dksX3_told_0 21 rfl rfl)
theorem dX3_told_24 : decode cX3_told 24 = .ok (.aload_n 0, 1) := dk_42 (dk_at dksX3_told_1 0 rfl rfl)
theorem dX3_told_25 : decode cX3_told 25 = .ok (.getfield 171, 3) := dk_180 0 171 (dk_at dksX3_told_1 1 rfl rfl)
theorem dX3_told_28 : decode cX3_told 28 = .ok (.iload_n 2, 1) := dk_28 (dk_at dksX3_told_1 4 rfl rfl)
theorem dX3_told_29 : decode cX3_told 29 = .ok (.if_icmp .le 8, 3) := dk_164 0 8 (dk_at dksX3_told_1 5 rfl rfl)
theorem dX3_told_32 : decode cX3_told 32 = .ok (.aload_n 0, 1) := dk_42 (dk_at dksX3_told_1 8 rfl rfl)
theorem dX3_told_33 : decode cX3_told 33 = .ok (.iconst 3, 1) := dk_6 (dk_at dksX3_told_1 9 rfl rfl)
theorem dX3_told_34 : decode cX3_told 34 = .ok (.invokevirtual 203, 3) := dk_182 0 203 (dk_at dksX3_told_1 10 rfl rfl)
theorem dX3_told_37 : decode cX3_told 37 = .ok (.aload_n 0, 1) := dk_42 (dk_at dksX3_told_1 13 rfl rfl)
theorem dX3_told_38 : decode cX3_told 38 = .ok (.getfield 171, 3) := dk_180 0 171 (dk_at dksX3_told_1 14 rfl rfl)
theorem dX3_told_41 : decode cX3_told 41 = .ok (.istore_n 3, 1) := dk_62 (dk_at dksX3_told_1 17 rfl rfl)
theorem dX3_told_42 : decode cX3_told 42 = .ok (.aload_n 0, 1) := dk_42 (dk_at dksX3_told_1 18 rfl rfl)
theorem dX3_told_43 : decode cX3_told 43 = .ok (.getfield 187, 3) := dk_180 0 187 (dk_at dksX3_told_1 19 rfl rfl)
theorem dX3_told_46 : decode cX3_told 46 = .ok (.ifCond .ne 7, 3) := dk_154 0 7 (dk_at dksX3_told_2 0 rfl rfl)
theorem dX3_told_49 : decode cX3_told 49 = .ok (.aload_n 0, 1) := dk_42 (dk_at dksX3_told_2 3 rfl rfl)
theorem dX3_told_50 : decode cX3_told 50 = .ok (.invokevirtual 206, 3) := dk_182 0 206 (dk_at dksX3_told_2 4 rfl rfl)
theorem dX3_told_53 : decode cX3_told 53 = .ok (.iload_n 3, 1) := dk_29 (dk_at dksX3_told_2 7 rfl rfl)
theorem dX3_told_54 : decode cX3_told 54 = .ok (.ireturn, 1) := dk_172 (dk_at dksX3_told_2 8 rfl rfl)
abbrev cX3_readE : ByteArray := prog_16_method_25_code
def yX3_readE : MethodName := ⟨RX3, "readE", "()V"⟩
def dkwX3_readE_4 : List UInt8 := [27, 182, 0, 229, 60, 167, 255, 173, 42, 180, 0, 187, 154, 0, 8, 42, 3, 182, 0, 232, 177]
abbrev dktX3_readE_4 : List UInt8 := dkwX3_readE_4 ++ []
def dkwX3_readE_3 : List UInt8 := [154, 0, 6, 167, 255, 199, 27, 6, 159, 0, 7, 29, 153, 0, 11, 42, 27, 182, 0, 226, 167, 0, 8, 42]
abbrev dktX3_readE_3 : List UInt8 := dkwX3_readE_3 ++ dktX3_readE_4
def dkwX3_readE_2 : List UInt8 := [180, 0, 174, 16, 59, 160, 0, 10, 42, 182, 0, 222, 153, 0, 7, 4, 167, 0, 4, 3, 61, 28]
abbrev dktX3_readE_2 : List UInt8 := dkwX3_readE_2 ++ dktX3_readE_3
def dkwX3_readE_1 : List UInt8 := [153, 0, 78, 27, 7, 159, 0, 8, 27, 8, 160, 0, 7, 4, 167, 0, 4, 3, 62, 29, 153, 0, 19, 42]
abbrev dktX3_readE_1 : List UInt8 := dkwX3_readE_1 ++ dktX3_readE_2
def dkwX3_readE_0 : List UInt8 := [42, 3, 181, 0, 209, 42, 3, 181, 0, 212, 3, 60, 4, 61, 42, 180, 0, 187, 154, 0, 82, 28]
abbrev dktX3_readE_0 : List UInt8 := dkwX3_readE_0 ++ dktX3_readE_1
theorem dksX3_readE_0 : cX3_readE.data.toList.drop 0 = dktX3_readE_0 := by decide +kernel
theorem dksX3_readE_1 : cX3_readE.data.toList.drop 22 = dktX3_readE_1 := dk_seg dksX3_readE_0 22 rfl rfl
theorem dksX3_readE_2 : cX3_readE.data.toList.drop 46 = dktX3_readE_2 := dk_seg dksX3_readE_1 24 rfl rfl
theorem dksX3_readE_3 : cX3_readE.data.toList.drop 68 = dktX3_readE_3 := dk_seg dksX3_readE_2 22 rfl rfl
theorem dksX3_readE_4 : cX3_readE.data.toList.drop 92 = dktX3_readE_4 := dk_seg dksX3_readE_3 24 rfl rfl
theorem dX3_readE_0 : decode cX3_readE 0 = .ok (.aload_n 0, 1) := dk_42 (dk_at dksX3_readE_0 0 rfl rfl)
theorem dX3_readE_1 : decode cX3_readE 1 = .ok (.iconst 0, 1) := dk_3 (dk_at dksX3_readE_0 1 rfl rfl)
theorem dX3_readE_2 : decode cX3_readE 2 = .ok (.putfield 209, 3) := dk_181 0 209 (dk_at dksX3_readE_0 2 rfl rfl)
theorem dX3_readE_5 : decode cX3_readE 5 = .ok (.aload_n 0, 1) := dk_42 (dk_at dksX3_readE_0 5 rfl rfl)
theorem dX3_readE_6 : decode cX3_readE 6 = .ok (.iconst 0, 1) := dk_3 (dk_at dksX3_readE_0 6 rfl rfl)
theorem dX3_readE_7 : decode cX3_readE 7 = .ok (.putfield 212, 3) := dk_181 0 212 (dk_at dksX3_readE_0 7 rfl rfl)
theorem dX3_readE_10 : decode cX3_readE 10 = .ok (.iconst 0, 1) := dk_3 (dk_at dksX3_readE_0 10 rfl rfl)
theorem dX3_readE_11 : decode cX3_readE 11 = .ok (.istore_n 1, 1) := dk_60 (dk_at dksX3_readE_0 11 rfl rfl)
theorem dX3_readE_12 : decode cX3_readE 12 = .ok (.iconst 1, 1) := dk_4 (dk_at dksX3_readE_0 12 rfl rfl)
theorem dX3_readE_13 : decode cX3_readE 13 = .ok (.istore_n 2, 1) := dk_61 (dk_at dksX3_readE_0 13 rfl rfl)
theorem dX3_readE_14 : decode cX3_readE 14 = .ok (.aload_n 0, 1) := dk_42 (dk_at dksX3_readE_0 14 rfl rfl)
theorem dX3_readE_15 : decode cX3_readE 15 = .ok (.getfield 187, 3) := dk_180 0 187 (dk_at dksX3_readE_0 15 rfl rfl)
theorem dX3_readE_18 : decode cX3_readE 18 = .ok (.ifCond .ne 82, 3) := dk_154 0 82 (dk_at dksX3_readE_0 18 rfl rfl)
theorem dX3_readE_21 : decode cX3_readE 21 = .ok (.iload_n 2, 1) := dk_28 (dk_at dksX3_readE_0 21 rfl rfl)
theorem dX3_readE_22 : decode cX3_readE 22 = .ok (.ifCond .eq 78, 3) := dk_153 0 78 (dk_at dksX3_readE_1 0 rfl rfl)
theorem dX3_readE_25 : decode cX3_readE 25 = .ok (.iload_n 1, 1) := dk_27 (dk_at dksX3_readE_1 3 rfl rfl)
theorem dX3_readE_26 : decode cX3_readE 26 = .ok (.iconst 4, 1) := dk_7 (dk_at dksX3_readE_1 4 rfl rfl)
theorem dX3_readE_27 : decode cX3_readE 27 = .ok (.if_icmp .eq 8, 3) := dk_159 0 8 (dk_at dksX3_readE_1 5 rfl rfl)
theorem dX3_readE_30 : decode cX3_readE 30 = .ok (.iload_n 1, 1) := dk_27 (dk_at dksX3_readE_1 8 rfl rfl)
theorem dX3_readE_31 : decode cX3_readE 31 = .ok (.iconst 5, 1) := dk_8 (dk_at dksX3_readE_1 9 rfl rfl)
theorem dX3_readE_32 : decode cX3_readE 32 = .ok (.if_icmp .ne 7, 3) := dk_160 0 7 (dk_at dksX3_readE_1 10 rfl rfl)
theorem dX3_readE_35 : decode cX3_readE 35 = .ok (.iconst 1, 1) := dk_4 (dk_at dksX3_readE_1 13 rfl rfl)
theorem dX3_readE_36 : decode cX3_readE 36 = .ok (.goto 4, 3) := dk_167 0 4 (dk_at dksX3_readE_1 14 rfl rfl)
theorem dX3_readE_39 : decode cX3_readE 39 = .ok (.iconst 0, 1) := dk_3 (dk_at dksX3_readE_1 17 rfl rfl)
theorem dX3_readE_40 : decode cX3_readE 40 = .ok (.istore_n 3, 1) := dk_62 (dk_at dksX3_readE_1 18 rfl rfl)
theorem dX3_readE_41 : decode cX3_readE 41 = .ok (.iload_n 3, 1) := dk_29 (dk_at dksX3_readE_1 19 rfl rfl)
theorem dX3_readE_42 : decode cX3_readE 42 = .ok (.ifCond .eq 19, 3) := dk_153 0 19 (dk_at dksX3_readE_1 20 rfl rfl)
theorem dX3_readE_45 : decode cX3_readE 45 = .ok (.aload_n 0, 1) := dk_42 (dk_at dksX3_readE_1 23 rfl rfl)
theorem dX3_readE_46 : decode cX3_readE 46 = .ok (.getfield 174, 3) := dk_180 0 174 (dk_at dksX3_readE_2 0 rfl rfl)
theorem dX3_readE_49 : decode cX3_readE 49 = .ok (.bipush 59, 2) := dk_16 59 (dk_at dksX3_readE_2 3 rfl rfl)
theorem dX3_readE_51 : decode cX3_readE 51 = .ok (.if_icmp .ne 10, 3) := dk_160 0 10 (dk_at dksX3_readE_2 5 rfl rfl)
theorem dX3_readE_54 : decode cX3_readE 54 = .ok (.aload_n 0, 1) := dk_42 (dk_at dksX3_readE_2 8 rfl rfl)
theorem dX3_readE_55 : decode cX3_readE 55 = .ok (.invokevirtual 222, 3) := dk_182 0 222 (dk_at dksX3_readE_2 9 rfl rfl)
theorem dX3_readE_58 : decode cX3_readE 58 = .ok (.ifCond .eq 7, 3) := dk_153 0 7 (dk_at dksX3_readE_2 12 rfl rfl)
theorem dX3_readE_61 : decode cX3_readE 61 = .ok (.iconst 1, 1) := dk_4 (dk_at dksX3_readE_2 15 rfl rfl)
theorem dX3_readE_62 : decode cX3_readE 62 = .ok (.goto 4, 3) := dk_167 0 4 (dk_at dksX3_readE_2 16 rfl rfl)
theorem dX3_readE_65 : decode cX3_readE 65 = .ok (.iconst 0, 1) := dk_3 (dk_at dksX3_readE_2 19 rfl rfl)
theorem dX3_readE_66 : decode cX3_readE 66 = .ok (.istore_n 2, 1) := dk_61 (dk_at dksX3_readE_2 20 rfl rfl)
theorem dX3_readE_67 : decode cX3_readE 67 = .ok (.iload_n 2, 1) := dk_28 (dk_at dksX3_readE_2 21 rfl rfl)
theorem dX3_readE_68 : decode cX3_readE 68 = .ok (.ifCond .ne 6, 3) := dk_154 0 6 (dk_at dksX3_readE_3 0 rfl rfl)
theorem dX3_readE_71 : decode cX3_readE 71 = .ok (.goto (-57), 3) := dk_167 255 199 (dk_at dksX3_readE_3 3 rfl rfl)
theorem dX3_readE_74 : decode cX3_readE 74 = .ok (.iload_n 1, 1) := dk_27 (dk_at dksX3_readE_3 6 rfl rfl)
theorem dX3_readE_75 : decode cX3_readE 75 = .ok (.iconst 3, 1) := dk_6 (dk_at dksX3_readE_3 7 rfl rfl)
theorem dX3_readE_76 : decode cX3_readE 76 = .ok (.if_icmp .eq 7, 3) := dk_159 0 7 (dk_at dksX3_readE_3 8 rfl rfl)
theorem dX3_readE_79 : decode cX3_readE 79 = .ok (.iload_n 3, 1) := dk_29 (dk_at dksX3_readE_3 11 rfl rfl)
theorem dX3_readE_80 : decode cX3_readE 80 = .ok (.ifCond .eq 11, 3) := dk_153 0 11 (dk_at dksX3_readE_3 12 rfl rfl)
theorem dX3_readE_83 : decode cX3_readE 83 = .ok (.aload_n 0, 1) := dk_42 (dk_at dksX3_readE_3 15 rfl rfl)
theorem dX3_readE_84 : decode cX3_readE 84 = .ok (.iload_n 1, 1) := dk_27 (dk_at dksX3_readE_3 16 rfl rfl)
theorem dX3_readE_85 : decode cX3_readE 85 = .ok (.invokevirtual 226, 3) := dk_182 0 226 (dk_at dksX3_readE_3 17 rfl rfl)
theorem dX3_readE_88 : decode cX3_readE 88 = .ok (.goto 8, 3) := dk_167 0 8 (dk_at dksX3_readE_3 20 rfl rfl)
theorem dX3_readE_91 : decode cX3_readE 91 = .ok (.aload_n 0, 1) := dk_42 (dk_at dksX3_readE_3 23 rfl rfl)
theorem dX3_readE_92 : decode cX3_readE 92 = .ok (.iload_n 1, 1) := dk_27 (dk_at dksX3_readE_4 0 rfl rfl)
theorem dX3_readE_93 : decode cX3_readE 93 = .ok (.invokevirtual 229, 3) := dk_182 0 229 (dk_at dksX3_readE_4 1 rfl rfl)
theorem dX3_readE_96 : decode cX3_readE 96 = .ok (.istore_n 1, 1) := dk_60 (dk_at dksX3_readE_4 4 rfl rfl)
theorem dX3_readE_97 : decode cX3_readE 97 = .ok (.goto (-83), 3) := dk_167 255 173 (dk_at dksX3_readE_4 5 rfl rfl)
theorem dX3_readE_100 : decode cX3_readE 100 = .ok (.aload_n 0, 1) := dk_42 (dk_at dksX3_readE_4 8 rfl rfl)
theorem dX3_readE_101 : decode cX3_readE 101 = .ok (.getfield 187, 3) := dk_180 0 187 (dk_at dksX3_readE_4 9 rfl rfl)
theorem dX3_readE_104 : decode cX3_readE 104 = .ok (.ifCond .ne 8, 3) := dk_154 0 8 (dk_at dksX3_readE_4 12 rfl rfl)
theorem dX3_readE_107 : decode cX3_readE 107 = .ok (.aload_n 0, 1) := dk_42 (dk_at dksX3_readE_4 15 rfl rfl)
theorem dX3_readE_108 : decode cX3_readE 108 = .ok (.iconst 0, 1) := dk_3 (dk_at dksX3_readE_4 16 rfl rfl)
theorem dX3_readE_109 : decode cX3_readE 109 = .ok (.invokevirtual 232, 3) := dk_182 0 232 (dk_at dksX3_readE_4 17 rfl rfl)
theorem dX3_readE_112 : decode cX3_readE 112 = .ok (.return_, 1) := dk_177 (dk_at dksX3_readE_4 20 rfl rfl)
abbrev cX3_isOpen : ByteArray := prog_16_method_24_code
def yX3_isOpen : MethodName := ⟨RX3, "isOpen", "()Z"⟩
def dkwX3_isOpen_1 : List UInt8 := [160, 0, 7, 4, 167, 0, 4, 3, 60, 132, 2, 1, 167, 255, 224, 27, 172]
abbrev dktX3_isOpen_1 : List UInt8 := dkwX3_isOpen_1 ++ []
def dkwX3_isOpen_0 : List UInt8 := [3, 60, 3, 61, 28, 42, 180, 0, 209, 162, 0, 30, 27, 154, 0, 14, 42, 180, 0, 50, 28, 46, 16, 28]
abbrev dktX3_isOpen_0 : List UInt8 := dkwX3_isOpen_0 ++ dktX3_isOpen_1
theorem dksX3_isOpen_0 : cX3_isOpen.data.toList.drop 0 = dktX3_isOpen_0 := by decide +kernel
theorem dksX3_isOpen_1 : cX3_isOpen.data.toList.drop 24 = dktX3_isOpen_1 := dk_seg dksX3_isOpen_0 24 rfl rfl
theorem dX3_isOpen_0 : decode cX3_isOpen 0 = .ok (.iconst 0, 1) := dk_3 (dk_at dksX3_isOpen_0 0 rfl rfl)
theorem dX3_isOpen_1 : decode cX3_isOpen 1 = .ok (.istore_n 1, 1) := dk_60 (dk_at dksX3_isOpen_0 1 rfl rfl)
theorem dX3_isOpen_2 : decode cX3_isOpen 2 = .ok (.iconst 0, 1) := dk_3 (dk_at dksX3_isOpen_0 2 rfl rfl)
theorem dX3_isOpen_3 : decode cX3_isOpen 3 = .ok (.istore_n 2, 1) := dk_61 (dk_at dksX3_isOpen_0 3 rfl rfl)
theorem dX3_isOpen_4 : decode cX3_isOpen 4 = .ok (.iload_n 2, 1) := dk_28 (dk_at dksX3_isOpen_0 4 rfl rfl)
theorem dX3_isOpen_5 : decode cX3_isOpen 5 = .ok (.aload_n 0, 1) := dk_42 (dk_at dksX3_isOpen_0 5 rfl rfl)
theorem dX3_isOpen_6 : decode cX3_isOpen 6 = .ok (.getfield 209, 3) := dk_180 0 209 (dk_at dksX3_isOpen_0 6 rfl rfl)
theorem dX3_isOpen_9 : decode cX3_isOpen 9 = .ok (.if_icmp .ge 30, 3) := dk_162 0 30 (dk_at dksX3_isOpen_0 9 rfl rfl)
theorem dX3_isOpen_12 : decode cX3_isOpen 12 = .ok (.iload_n 1, 1) := dk_27 (dk_at dksX3_isOpen_0 12 rfl rfl)
theorem dX3_isOpen_13 : decode cX3_isOpen 13 = .ok (.ifCond .ne 14, 3) := dk_154 0 14 (dk_at dksX3_isOpen_0 13 rfl rfl)
theorem dX3_isOpen_16 : decode cX3_isOpen 16 = .ok (.aload_n 0, 1) := dk_42 (dk_at dksX3_isOpen_0 16 rfl rfl)
theorem dX3_isOpen_17 : decode cX3_isOpen 17 = .ok (.getfield 50, 3) := dk_180 0 50 (dk_at dksX3_isOpen_0 17 rfl rfl)
theorem dX3_isOpen_20 : decode cX3_isOpen 20 = .ok (.iload_n 2, 1) := dk_28 (dk_at dksX3_isOpen_0 20 rfl rfl)
theorem dX3_isOpen_21 : decode cX3_isOpen 21 = .ok (.iaload, 1) := dk_46 (dk_at dksX3_isOpen_0 21 rfl rfl)
theorem dX3_isOpen_22 : decode cX3_isOpen 22 = .ok (.bipush 28, 2) := dk_16 28 (dk_at dksX3_isOpen_0 22 rfl rfl)
theorem dX3_isOpen_24 : decode cX3_isOpen 24 = .ok (.if_icmp .ne 7, 3) := dk_160 0 7 (dk_at dksX3_isOpen_1 0 rfl rfl)
theorem dX3_isOpen_27 : decode cX3_isOpen 27 = .ok (.iconst 1, 1) := dk_4 (dk_at dksX3_isOpen_1 3 rfl rfl)
theorem dX3_isOpen_28 : decode cX3_isOpen 28 = .ok (.goto 4, 3) := dk_167 0 4 (dk_at dksX3_isOpen_1 4 rfl rfl)
theorem dX3_isOpen_31 : decode cX3_isOpen 31 = .ok (.iconst 0, 1) := dk_3 (dk_at dksX3_isOpen_1 7 rfl rfl)
theorem dX3_isOpen_32 : decode cX3_isOpen 32 = .ok (.istore_n 1, 1) := dk_60 (dk_at dksX3_isOpen_1 8 rfl rfl)
theorem dX3_isOpen_33 : decode cX3_isOpen 33 = .ok (.iinc 2 1, 3) := dk_132 2 1 (dk_at dksX3_isOpen_1 9 rfl rfl)
theorem dX3_isOpen_36 : decode cX3_isOpen 36 = .ok (.goto (-32), 3) := dk_167 255 224 (dk_at dksX3_isOpen_1 12 rfl rfl)
theorem dX3_isOpen_39 : decode cX3_isOpen 39 = .ok (.iload_n 1, 1) := dk_27 (dk_at dksX3_isOpen_1 15 rfl rfl)
theorem dX3_isOpen_40 : decode cX3_isOpen 40 = .ok (.ireturn, 1) := dk_172 (dk_at dksX3_isOpen_1 16 rfl rfl)
abbrev cX3_sign : ByteArray := prog_16_method_27_code
def yX3_sign : MethodName := ⟨RX3, "sign", "(I)I"⟩
def dkwX3_sign_11 : List UInt8 := [27, 172]
abbrev dktX3_sign_11 : List UInt8 := dkwX3_sign_11 ++ []
def dkwX3_sign_10 : List UInt8 := [181, 0, 209, 42, 89, 180, 0, 212, 4, 100, 181, 0, 212, 42, 182, 0, 206, 8, 172, 42, 5, 182, 0, 203]
abbrev dktX3_sign_10 : List UInt8 := dkwX3_sign_10 ++ dktX3_sign_11
def dkwX3_sign_9 : List UInt8 := [16, 41, 160, 0, 41, 42, 182, 0, 222, 153, 0, 34, 42, 3, 182, 0, 232, 42, 89, 180, 0, 209, 4, 100]
abbrev dktX3_sign_9 : List UInt8 := dkwX3_sign_9 ++ dktX3_sign_10
def dkwX3_sign_8 : List UInt8 := [167, 0, 5, 16, 21, 182, 0, 248, 42, 182, 0, 206, 3, 172, 27, 6, 159, 0, 50, 42, 180, 0, 174]
abbrev dktX3_sign_8 : List UInt8 := dkwX3_sign_8 ++ dktX3_sign_9
def dkwX3_sign_7 : List UInt8 := [153, 0, 37, 42, 20, 0, 251, 182, 0, 241, 61, 42, 28, 182, 0, 255, 42, 28, 153, 0, 8, 16, 22]
abbrev dktX3_sign_7 : List UInt8 := dkwX3_sign_7 ++ dktX3_sign_8
def dkwX3_sign_6 : List UInt8 := [172, 27, 6, 159, 0, 57, 42, 20, 0, 251, 182, 0, 241, 154, 0, 13, 42, 20, 0, 253, 182, 0, 241]
abbrev dktX3_sign_6 : List UInt8 := dkwX3_sign_6 ++ dktX3_sign_7
def dkwX3_sign_5 : List UInt8 := [42, 180, 0, 174, 16, 60, 160, 0, 8, 16, 24, 167, 0, 5, 16, 25, 182, 0, 248, 42, 182, 0, 206, 5]
abbrev dktX3_sign_5 : List UInt8 := dkwX3_sign_5 ++ dktX3_sign_6
def dkwX3_sign_4 : List UInt8 := [160, 0, 49, 42, 16, 26, 182, 0, 232, 42, 42, 180, 0, 174, 16, 61, 160, 0, 8, 16, 23, 167, 0, 19]
abbrev dktX3_sign_4 : List UInt8 := dkwX3_sign_4 ++ dktX3_sign_5
def dkwX3_sign_3 : List UInt8 := [180, 0, 174, 16, 61, 159, 0, 21, 42, 180, 0, 174, 16, 60, 159, 0, 12, 42, 180, 0, 174, 16, 62]
abbrev dktX3_sign_3 : List UInt8 := dkwX3_sign_3 ++ dktX3_sign_4
def dkwX3_sign_2 : List UInt8 := [182, 0, 248, 42, 182, 0, 206, 27, 6, 160, 0, 7, 4, 167, 0, 4, 5, 172, 27, 6, 160, 0, 76, 42]
abbrev dktX3_sign_2 : List UInt8 := dkwX3_sign_2 ++ dktX3_sign_3
def dkwX3_sign_1 : List UInt8 := [16, 26, 182, 0, 232, 42, 42, 180, 0, 174, 16, 43, 160, 0, 8, 16, 26, 167, 0, 5, 16, 27]
abbrev dktX3_sign_1 : List UInt8 := dkwX3_sign_1 ++ dktX3_sign_2
def dkwX3_sign_0 : List UInt8 := [27, 8, 159, 0, 62, 42, 180, 0, 174, 16, 43, 159, 0, 12, 42, 180, 0, 174, 16, 45, 160, 0, 44, 42]
abbrev dktX3_sign_0 : List UInt8 := dkwX3_sign_0 ++ dktX3_sign_1
theorem dksX3_sign_0 : cX3_sign.data.toList.drop 0 = dktX3_sign_0 := by decide +kernel
theorem dksX3_sign_1 : cX3_sign.data.toList.drop 24 = dktX3_sign_1 := dk_seg dksX3_sign_0 24 rfl rfl
theorem dksX3_sign_2 : cX3_sign.data.toList.drop 46 = dktX3_sign_2 := dk_seg dksX3_sign_1 22 rfl rfl
theorem dksX3_sign_3 : cX3_sign.data.toList.drop 70 = dktX3_sign_3 := dk_seg dksX3_sign_2 24 rfl rfl
theorem dksX3_sign_4 : cX3_sign.data.toList.drop 93 = dktX3_sign_4 := dk_seg dksX3_sign_3 23 rfl rfl
theorem dksX3_sign_5 : cX3_sign.data.toList.drop 117 = dktX3_sign_5 := dk_seg dksX3_sign_4 24 rfl rfl
theorem dksX3_sign_6 : cX3_sign.data.toList.drop 141 = dktX3_sign_6 := dk_seg dksX3_sign_5 24 rfl rfl
theorem dksX3_sign_7 : cX3_sign.data.toList.drop 164 = dktX3_sign_7 := dk_seg dksX3_sign_6 23 rfl rfl
theorem dksX3_sign_8 : cX3_sign.data.toList.drop 187 = dktX3_sign_8 := dk_seg dksX3_sign_7 23 rfl rfl
theorem dksX3_sign_9 : cX3_sign.data.toList.drop 210 = dktX3_sign_9 := dk_seg dksX3_sign_8 23 rfl rfl
theorem dksX3_sign_10 : cX3_sign.data.toList.drop 234 = dktX3_sign_10 := dk_seg dksX3_sign_9 24 rfl rfl
theorem dksX3_sign_11 : cX3_sign.data.toList.drop 258 = dktX3_sign_11 := dk_seg dksX3_sign_10 24 rfl rfl
theorem dX3_sign_0 : decode cX3_sign 0 = .ok (.iload_n 1, 1) := dk_27 (dk_at dksX3_sign_0 0 rfl rfl)
theorem dX3_sign_1 : decode cX3_sign 1 = .ok (.iconst 5, 1) := dk_8 (dk_at dksX3_sign_0 1 rfl rfl)
theorem dX3_sign_2 : decode cX3_sign 2 = .ok (.if_icmp .eq 62, 3) := dk_159 0 62 (dk_at dksX3_sign_0 2 rfl rfl)
theorem dX3_sign_5 : decode cX3_sign 5 = .ok (.aload_n 0, 1) := dk_42 (dk_at dksX3_sign_0 5 rfl rfl)
theorem dX3_sign_6 : decode cX3_sign 6 = .ok (.getfield 174, 3) := dk_180 0 174 (dk_at dksX3_sign_0 6 rfl rfl)
theorem dX3_sign_9 : decode cX3_sign 9 = .ok (.bipush 43, 2) := dk_16 43 (dk_at dksX3_sign_0 9 rfl rfl)
theorem dX3_sign_11 : decode cX3_sign 11 = .ok (.if_icmp .eq 12, 3) := dk_159 0 12 (dk_at dksX3_sign_0 11 rfl rfl)
theorem dX3_sign_14 : decode cX3_sign 14 = .ok (.aload_n 0, 1) := dk_42 (dk_at dksX3_sign_0 14 rfl rfl)
theorem dX3_sign_15 : decode cX3_sign 15 = .ok (.getfield 174, 3) := dk_180 0 174 (dk_at dksX3_sign_0 15 rfl rfl)
theorem dX3_sign_18 : decode cX3_sign 18 = .ok (.bipush 45, 2) := dk_16 45 (dk_at dksX3_sign_0 18 rfl rfl)
theorem dX3_sign_20 : decode cX3_sign 20 = .ok (.if_icmp .ne 44, 3) := dk_160 0 44 (dk_at dksX3_sign_0 20 rfl rfl)
theorem dX3_sign_23 : decode cX3_sign 23 = .ok (.aload_n 0, 1) := dk_42 (dk_at dksX3_sign_0 23 rfl rfl)
theorem dX3_sign_24 : decode cX3_sign 24 = .ok (.bipush 26, 2) := dk_16 26 (dk_at dksX3_sign_1 0 rfl rfl)
theorem dX3_sign_26 : decode cX3_sign 26 = .ok (.invokevirtual 232, 3) := dk_182 0 232 (dk_at dksX3_sign_1 2 rfl rfl)
theorem dX3_sign_29 : decode cX3_sign 29 = .ok (.aload_n 0, 1) := dk_42 (dk_at dksX3_sign_1 5 rfl rfl)
theorem dX3_sign_30 : decode cX3_sign 30 = .ok (.aload_n 0, 1) := dk_42 (dk_at dksX3_sign_1 6 rfl rfl)
theorem dX3_sign_31 : decode cX3_sign 31 = .ok (.getfield 174, 3) := dk_180 0 174 (dk_at dksX3_sign_1 7 rfl rfl)
theorem dX3_sign_34 : decode cX3_sign 34 = .ok (.bipush 43, 2) := dk_16 43 (dk_at dksX3_sign_1 10 rfl rfl)
theorem dX3_sign_36 : decode cX3_sign 36 = .ok (.if_icmp .ne 8, 3) := dk_160 0 8 (dk_at dksX3_sign_1 12 rfl rfl)
theorem dX3_sign_39 : decode cX3_sign 39 = .ok (.bipush 26, 2) := dk_16 26 (dk_at dksX3_sign_1 15 rfl rfl)
theorem dX3_sign_41 : decode cX3_sign 41 = .ok (.goto 5, 3) := dk_167 0 5 (dk_at dksX3_sign_1 17 rfl rfl)
theorem dX3_sign_44 : decode cX3_sign 44 = .ok (.bipush 27, 2) := dk_16 27 (dk_at dksX3_sign_1 20 rfl rfl)
theorem dX3_sign_46 : decode cX3_sign 46 = .ok (.invokevirtual 248, 3) := dk_182 0 248 (dk_at dksX3_sign_2 0 rfl rfl)
theorem dX3_sign_49 : decode cX3_sign 49 = .ok (.aload_n 0, 1) := dk_42 (dk_at dksX3_sign_2 3 rfl rfl)
theorem dX3_sign_50 : decode cX3_sign 50 = .ok (.invokevirtual 206, 3) := dk_182 0 206 (dk_at dksX3_sign_2 4 rfl rfl)
theorem dX3_sign_53 : decode cX3_sign 53 = .ok (.iload_n 1, 1) := dk_27 (dk_at dksX3_sign_2 7 rfl rfl)
theorem dX3_sign_54 : decode cX3_sign 54 = .ok (.iconst 3, 1) := dk_6 (dk_at dksX3_sign_2 8 rfl rfl)
theorem dX3_sign_55 : decode cX3_sign 55 = .ok (.if_icmp .ne 7, 3) := dk_160 0 7 (dk_at dksX3_sign_2 9 rfl rfl)
theorem dX3_sign_58 : decode cX3_sign 58 = .ok (.iconst 1, 1) := dk_4 (dk_at dksX3_sign_2 12 rfl rfl)
theorem dX3_sign_59 : decode cX3_sign 59 = .ok (.goto 4, 3) := dk_167 0 4 (dk_at dksX3_sign_2 13 rfl rfl)
theorem dX3_sign_62 : decode cX3_sign 62 = .ok (.iconst 2, 1) := dk_5 (dk_at dksX3_sign_2 16 rfl rfl)
theorem dX3_sign_63 : decode cX3_sign 63 = .ok (.ireturn, 1) := dk_172 (dk_at dksX3_sign_2 17 rfl rfl)
theorem dX3_sign_64 : decode cX3_sign 64 = .ok (.iload_n 1, 1) := dk_27 (dk_at dksX3_sign_2 18 rfl rfl)
theorem dX3_sign_65 : decode cX3_sign 65 = .ok (.iconst 3, 1) := dk_6 (dk_at dksX3_sign_2 19 rfl rfl)
theorem dX3_sign_66 : decode cX3_sign 66 = .ok (.if_icmp .ne 76, 3) := dk_160 0 76 (dk_at dksX3_sign_2 20 rfl rfl)
theorem dX3_sign_69 : decode cX3_sign 69 = .ok (.aload_n 0, 1) := dk_42 (dk_at dksX3_sign_2 23 rfl rfl)
theorem dX3_sign_70 : decode cX3_sign 70 = .ok (.getfield 174, 3) := dk_180 0 174 (dk_at dksX3_sign_3 0 rfl rfl)
theorem dX3_sign_73 : decode cX3_sign 73 = .ok (.bipush 61, 2) := dk_16 61 (dk_at dksX3_sign_3 3 rfl rfl)
theorem dX3_sign_75 : decode cX3_sign 75 = .ok (.if_icmp .eq 21, 3) := dk_159 0 21 (dk_at dksX3_sign_3 5 rfl rfl)
theorem dX3_sign_78 : decode cX3_sign 78 = .ok (.aload_n 0, 1) := dk_42 (dk_at dksX3_sign_3 8 rfl rfl)
theorem dX3_sign_79 : decode cX3_sign 79 = .ok (.getfield 174, 3) := dk_180 0 174 (dk_at dksX3_sign_3 9 rfl rfl)
theorem dX3_sign_82 : decode cX3_sign 82 = .ok (.bipush 60, 2) := dk_16 60 (dk_at dksX3_sign_3 12 rfl rfl)
theorem dX3_sign_84 : decode cX3_sign 84 = .ok (.if_icmp .eq 12, 3) := dk_159 0 12 (dk_at dksX3_sign_3 14 rfl rfl)
theorem dX3_sign_87 : decode cX3_sign 87 = .ok (.aload_n 0, 1) := dk_42 (dk_at dksX3_sign_3 17 rfl rfl)
theorem dX3_sign_88 : decode cX3_sign 88 = .ok (.getfield 174, 3) := dk_180 0 174 (dk_at dksX3_sign_3 18 rfl rfl)
theorem dX3_sign_91 : decode cX3_sign 91 = .ok (.bipush 62, 2) := dk_16 62 (dk_at dksX3_sign_3 21 rfl rfl)
theorem dX3_sign_93 : decode cX3_sign 93 = .ok (.if_icmp .ne 49, 3) := dk_160 0 49 (dk_at dksX3_sign_4 0 rfl rfl)
theorem dX3_sign_96 : decode cX3_sign 96 = .ok (.aload_n 0, 1) := dk_42 (dk_at dksX3_sign_4 3 rfl rfl)
theorem dX3_sign_97 : decode cX3_sign 97 = .ok (.bipush 26, 2) := dk_16 26 (dk_at dksX3_sign_4 4 rfl rfl)
theorem dX3_sign_99 : decode cX3_sign 99 = .ok (.invokevirtual 232, 3) := dk_182 0 232 (dk_at dksX3_sign_4 6 rfl rfl)
theorem dX3_sign_102 : decode cX3_sign 102 = .ok (.aload_n 0, 1) := dk_42 (dk_at dksX3_sign_4 9 rfl rfl)
theorem dX3_sign_103 : decode cX3_sign 103 = .ok (.aload_n 0, 1) := dk_42 (dk_at dksX3_sign_4 10 rfl rfl)
theorem dX3_sign_104 : decode cX3_sign 104 = .ok (.getfield 174, 3) := dk_180 0 174 (dk_at dksX3_sign_4 11 rfl rfl)
theorem dX3_sign_107 : decode cX3_sign 107 = .ok (.bipush 61, 2) := dk_16 61 (dk_at dksX3_sign_4 14 rfl rfl)
theorem dX3_sign_109 : decode cX3_sign 109 = .ok (.if_icmp .ne 8, 3) := dk_160 0 8 (dk_at dksX3_sign_4 16 rfl rfl)
theorem dX3_sign_112 : decode cX3_sign 112 = .ok (.bipush 23, 2) := dk_16 23 (dk_at dksX3_sign_4 19 rfl rfl)
theorem dX3_sign_114 : decode cX3_sign 114 = .ok (.goto 19, 3) := dk_167 0 19 (dk_at dksX3_sign_4 21 rfl rfl)
theorem dX3_sign_117 : decode cX3_sign 117 = .ok (.aload_n 0, 1) := dk_42 (dk_at dksX3_sign_5 0 rfl rfl)
theorem dX3_sign_118 : decode cX3_sign 118 = .ok (.getfield 174, 3) := dk_180 0 174 (dk_at dksX3_sign_5 1 rfl rfl)
theorem dX3_sign_121 : decode cX3_sign 121 = .ok (.bipush 60, 2) := dk_16 60 (dk_at dksX3_sign_5 4 rfl rfl)
theorem dX3_sign_123 : decode cX3_sign 123 = .ok (.if_icmp .ne 8, 3) := dk_160 0 8 (dk_at dksX3_sign_5 6 rfl rfl)
theorem dX3_sign_126 : decode cX3_sign 126 = .ok (.bipush 24, 2) := dk_16 24 (dk_at dksX3_sign_5 9 rfl rfl)
theorem dX3_sign_128 : decode cX3_sign 128 = .ok (.goto 5, 3) := dk_167 0 5 (dk_at dksX3_sign_5 11 rfl rfl)
theorem dX3_sign_131 : decode cX3_sign 131 = .ok (.bipush 25, 2) := dk_16 25 (dk_at dksX3_sign_5 14 rfl rfl)
theorem dX3_sign_133 : decode cX3_sign 133 = .ok (.invokevirtual 248, 3) := dk_182 0 248 (dk_at dksX3_sign_5 16 rfl rfl)
theorem dX3_sign_136 : decode cX3_sign 136 = .ok (.aload_n 0, 1) := dk_42 (dk_at dksX3_sign_5 19 rfl rfl)
theorem dX3_sign_137 : decode cX3_sign 137 = .ok (.invokevirtual 206, 3) := dk_182 0 206 (dk_at dksX3_sign_5 20 rfl rfl)
theorem dX3_sign_140 : decode cX3_sign 140 = .ok (.iconst 2, 1) := dk_5 (dk_at dksX3_sign_5 23 rfl rfl)
theorem dX3_sign_141 : decode cX3_sign 141 = .ok (.ireturn, 1) := dk_172 (dk_at dksX3_sign_6 0 rfl rfl)
theorem dX3_sign_142 : decode cX3_sign 142 = .ok (.iload_n 1, 1) := dk_27 (dk_at dksX3_sign_6 1 rfl rfl)
theorem dX3_sign_143 : decode cX3_sign 143 = .ok (.iconst 3, 1) := dk_6 (dk_at dksX3_sign_6 2 rfl rfl)
theorem dX3_sign_144 : decode cX3_sign 144 = .ok (.if_icmp .eq 57, 3) := dk_159 0 57 (dk_at dksX3_sign_6 3 rfl rfl)
theorem dX3_sign_147 : decode cX3_sign 147 = .ok (.aload_n 0, 1) := dk_42 (dk_at dksX3_sign_6 6 rfl rfl)
theorem dX3_sign_148 : decode cX3_sign 148 = .ok (.ldc2_w 251, 3) := dk_20 0 251 (dk_at dksX3_sign_6 7 rfl rfl)
theorem dX3_sign_151 : decode cX3_sign 151 = .ok (.invokevirtual 241, 3) := dk_182 0 241 (dk_at dksX3_sign_6 10 rfl rfl)
theorem dX3_sign_154 : decode cX3_sign 154 = .ok (.ifCond .ne 13, 3) := dk_154 0 13 (dk_at dksX3_sign_6 13 rfl rfl)
theorem dX3_sign_157 : decode cX3_sign 157 = .ok (.aload_n 0, 1) := dk_42 (dk_at dksX3_sign_6 16 rfl rfl)
theorem dX3_sign_158 : decode cX3_sign 158 = .ok (.ldc2_w 253, 3) := dk_20 0 253 (dk_at dksX3_sign_6 17 rfl rfl)
theorem dX3_sign_161 : decode cX3_sign 161 = .ok (.invokevirtual 241, 3) := dk_182 0 241 (dk_at dksX3_sign_6 20 rfl rfl)
theorem dX3_sign_164 : decode cX3_sign 164 = .ok (.ifCond .eq 37, 3) := dk_153 0 37 (dk_at dksX3_sign_7 0 rfl rfl)
theorem dX3_sign_167 : decode cX3_sign 167 = .ok (.aload_n 0, 1) := dk_42 (dk_at dksX3_sign_7 3 rfl rfl)
theorem dX3_sign_168 : decode cX3_sign 168 = .ok (.ldc2_w 251, 3) := dk_20 0 251 (dk_at dksX3_sign_7 4 rfl rfl)
theorem dX3_sign_171 : decode cX3_sign 171 = .ok (.invokevirtual 241, 3) := dk_182 0 241 (dk_at dksX3_sign_7 7 rfl rfl)
theorem dX3_sign_174 : decode cX3_sign 174 = .ok (.istore_n 2, 1) := dk_61 (dk_at dksX3_sign_7 10 rfl rfl)
theorem dX3_sign_175 : decode cX3_sign 175 = .ok (.aload_n 0, 1) := dk_42 (dk_at dksX3_sign_7 11 rfl rfl)
theorem dX3_sign_176 : decode cX3_sign 176 = .ok (.iload_n 2, 1) := dk_28 (dk_at dksX3_sign_7 12 rfl rfl)
theorem dX3_sign_177 : decode cX3_sign 177 = .ok (.invokevirtual 255, 3) := dk_182 0 255 (dk_at dksX3_sign_7 13 rfl rfl)
theorem dX3_sign_180 : decode cX3_sign 180 = .ok (.aload_n 0, 1) := dk_42 (dk_at dksX3_sign_7 16 rfl rfl)
theorem dX3_sign_181 : decode cX3_sign 181 = .ok (.iload_n 2, 1) := dk_28 (dk_at dksX3_sign_7 17 rfl rfl)
theorem dX3_sign_182 : decode cX3_sign 182 = .ok (.ifCond .eq 8, 3) := dk_153 0 8 (dk_at dksX3_sign_7 18 rfl rfl)
theorem dX3_sign_185 : decode cX3_sign 185 = .ok (.bipush 22, 2) := dk_16 22 (dk_at dksX3_sign_7 21 rfl rfl)
theorem dX3_sign_187 : decode cX3_sign 187 = .ok (.goto 5, 3) := dk_167 0 5 (dk_at dksX3_sign_8 0 rfl rfl)
theorem dX3_sign_190 : decode cX3_sign 190 = .ok (.bipush 21, 2) := dk_16 21 (dk_at dksX3_sign_8 3 rfl rfl)
theorem dX3_sign_192 : decode cX3_sign 192 = .ok (.invokevirtual 248, 3) := dk_182 0 248 (dk_at dksX3_sign_8 5 rfl rfl)
theorem dX3_sign_195 : decode cX3_sign 195 = .ok (.aload_n 0, 1) := dk_42 (dk_at dksX3_sign_8 8 rfl rfl)
theorem dX3_sign_196 : decode cX3_sign 196 = .ok (.invokevirtual 206, 3) := dk_182 0 206 (dk_at dksX3_sign_8 9 rfl rfl)
theorem dX3_sign_199 : decode cX3_sign 199 = .ok (.iconst 0, 1) := dk_3 (dk_at dksX3_sign_8 12 rfl rfl)
theorem dX3_sign_200 : decode cX3_sign 200 = .ok (.ireturn, 1) := dk_172 (dk_at dksX3_sign_8 13 rfl rfl)
theorem dX3_sign_201 : decode cX3_sign 201 = .ok (.iload_n 1, 1) := dk_27 (dk_at dksX3_sign_8 14 rfl rfl)
theorem dX3_sign_202 : decode cX3_sign 202 = .ok (.iconst 3, 1) := dk_6 (dk_at dksX3_sign_8 15 rfl rfl)
theorem dX3_sign_203 : decode cX3_sign 203 = .ok (.if_icmp .eq 50, 3) := dk_159 0 50 (dk_at dksX3_sign_8 16 rfl rfl)
theorem dX3_sign_206 : decode cX3_sign 206 = .ok (.aload_n 0, 1) := dk_42 (dk_at dksX3_sign_8 19 rfl rfl)
theorem dX3_sign_207 : decode cX3_sign 207 = .ok (.getfield 174, 3) := dk_180 0 174 (dk_at dksX3_sign_8 20 rfl rfl)
theorem dX3_sign_210 : decode cX3_sign 210 = .ok (.bipush 41, 2) := dk_16 41 (dk_at dksX3_sign_9 0 rfl rfl)
theorem dX3_sign_212 : decode cX3_sign 212 = .ok (.if_icmp .ne 41, 3) := dk_160 0 41 (dk_at dksX3_sign_9 2 rfl rfl)
theorem dX3_sign_215 : decode cX3_sign 215 = .ok (.aload_n 0, 1) := dk_42 (dk_at dksX3_sign_9 5 rfl rfl)
theorem dX3_sign_216 : decode cX3_sign 216 = .ok (.invokevirtual 222, 3) := dk_182 0 222 (dk_at dksX3_sign_9 6 rfl rfl)
theorem dX3_sign_219 : decode cX3_sign 219 = .ok (.ifCond .eq 34, 3) := dk_153 0 34 (dk_at dksX3_sign_9 9 rfl rfl)
theorem dX3_sign_222 : decode cX3_sign 222 = .ok (.aload_n 0, 1) := dk_42 (dk_at dksX3_sign_9 12 rfl rfl)
theorem dX3_sign_223 : decode cX3_sign 223 = .ok (.iconst 0, 1) := dk_3 (dk_at dksX3_sign_9 13 rfl rfl)
theorem dX3_sign_224 : decode cX3_sign 224 = .ok (.invokevirtual 232, 3) := dk_182 0 232 (dk_at dksX3_sign_9 14 rfl rfl)
theorem dX3_sign_227 : decode cX3_sign 227 = .ok (.aload_n 0, 1) := dk_42 (dk_at dksX3_sign_9 17 rfl rfl)
theorem dX3_sign_228 : decode cX3_sign 228 = .ok (.dup, 1) := dk_89 (dk_at dksX3_sign_9 18 rfl rfl)
theorem dX3_sign_229 : decode cX3_sign 229 = .ok (.getfield 209, 3) := dk_180 0 209 (dk_at dksX3_sign_9 19 rfl rfl)
theorem dX3_sign_232 : decode cX3_sign 232 = .ok (.iconst 1, 1) := dk_4 (dk_at dksX3_sign_9 22 rfl rfl)
theorem dX3_sign_233 : decode cX3_sign 233 = .ok (.isub, 1) := dk_100 (dk_at dksX3_sign_9 23 rfl rfl)
theorem dX3_sign_234 : decode cX3_sign 234 = .ok (.putfield 209, 3) := dk_181 0 209 (dk_at dksX3_sign_10 0 rfl rfl)
theorem dX3_sign_237 : decode cX3_sign 237 = .ok (.aload_n 0, 1) := dk_42 (dk_at dksX3_sign_10 3 rfl rfl)
theorem dX3_sign_238 : decode cX3_sign 238 = .ok (.dup, 1) := dk_89 (dk_at dksX3_sign_10 4 rfl rfl)
theorem dX3_sign_239 : decode cX3_sign 239 = .ok (.getfield 212, 3) := dk_180 0 212 (dk_at dksX3_sign_10 5 rfl rfl)
theorem dX3_sign_242 : decode cX3_sign 242 = .ok (.iconst 1, 1) := dk_4 (dk_at dksX3_sign_10 8 rfl rfl)
theorem dX3_sign_243 : decode cX3_sign 243 = .ok (.isub, 1) := dk_100 (dk_at dksX3_sign_10 9 rfl rfl)
theorem dX3_sign_244 : decode cX3_sign 244 = .ok (.putfield 212, 3) := dk_181 0 212 (dk_at dksX3_sign_10 10 rfl rfl)
theorem dX3_sign_247 : decode cX3_sign 247 = .ok (.aload_n 0, 1) := dk_42 (dk_at dksX3_sign_10 13 rfl rfl)
theorem dX3_sign_248 : decode cX3_sign 248 = .ok (.invokevirtual 206, 3) := dk_182 0 206 (dk_at dksX3_sign_10 14 rfl rfl)
theorem dX3_sign_251 : decode cX3_sign 251 = .ok (.iconst 5, 1) := dk_8 (dk_at dksX3_sign_10 17 rfl rfl)
theorem dX3_sign_252 : decode cX3_sign 252 = .ok (.ireturn, 1) := dk_172 (dk_at dksX3_sign_10 18 rfl rfl)
theorem dX3_sign_253 : decode cX3_sign 253 = .ok (.aload_n 0, 1) := dk_42 (dk_at dksX3_sign_10 19 rfl rfl)
theorem dX3_sign_254 : decode cX3_sign 254 = .ok (.iconst 2, 1) := dk_5 (dk_at dksX3_sign_10 20 rfl rfl)
theorem dX3_sign_255 : decode cX3_sign 255 = .ok (.invokevirtual 203, 3) := dk_182 0 203 (dk_at dksX3_sign_10 21 rfl rfl)
theorem dX3_sign_258 : decode cX3_sign 258 = .ok (.iload_n 1, 1) := dk_27 (dk_at dksX3_sign_11 0 rfl rfl)
theorem dX3_sign_259 : decode cX3_sign 259 = .ok (.ireturn, 1) := dk_172 (dk_at dksX3_sign_11 1 rfl rfl)
abbrev cX3_settle : ByteArray := prog_16_method_23_code
def yX3_settle : MethodName := ⟨RX3, "settle", "(I)V"⟩
def dkwX3_settle_1 : List UInt8 := [180, 0, 50, 42, 180, 0, 209, 4, 100, 46, 27, 161, 0, 10, 42, 182, 0, 219, 167, 255, 214, 177]
abbrev dktX3_settle_1 : List UInt8 := dkwX3_settle_1 ++ []
def dkwX3_settle_0 : List UInt8 := [42, 180, 0, 209, 158, 0, 41, 42, 180, 0, 50, 42, 180, 0, 209, 4, 100, 46, 16, 28, 159, 0, 25, 42]
abbrev dktX3_settle_0 : List UInt8 := dkwX3_settle_0 ++ dktX3_settle_1
theorem dksX3_settle_0 : cX3_settle.data.toList.drop 0 = dktX3_settle_0 := by decide +kernel
theorem dksX3_settle_1 : cX3_settle.data.toList.drop 24 = dktX3_settle_1 := dk_seg dksX3_settle_0 24 rfl rfl
theorem dX3_settle_0 : decode cX3_settle 0 = .ok (.aload_n 0, 1) := dk_42 (dk_at dksX3_settle_0 0 rfl rfl)
theorem dX3_settle_1 : decode cX3_settle 1 = .ok (.getfield 209, 3) := dk_180 0 209 (dk_at dksX3_settle_0 1 rfl rfl)
theorem dX3_settle_4 : decode cX3_settle 4 = .ok (.ifCond .le 41, 3) := dk_158 0 41 (dk_at dksX3_settle_0 4 rfl rfl)
theorem dX3_settle_7 : decode cX3_settle 7 = .ok (.aload_n 0, 1) := dk_42 (dk_at dksX3_settle_0 7 rfl rfl)
theorem dX3_settle_8 : decode cX3_settle 8 = .ok (.getfield 50, 3) := dk_180 0 50 (dk_at dksX3_settle_0 8 rfl rfl)
theorem dX3_settle_11 : decode cX3_settle 11 = .ok (.aload_n 0, 1) := dk_42 (dk_at dksX3_settle_0 11 rfl rfl)
theorem dX3_settle_12 : decode cX3_settle 12 = .ok (.getfield 209, 3) := dk_180 0 209 (dk_at dksX3_settle_0 12 rfl rfl)
theorem dX3_settle_15 : decode cX3_settle 15 = .ok (.iconst 1, 1) := dk_4 (dk_at dksX3_settle_0 15 rfl rfl)
theorem dX3_settle_16 : decode cX3_settle 16 = .ok (.isub, 1) := dk_100 (dk_at dksX3_settle_0 16 rfl rfl)
theorem dX3_settle_17 : decode cX3_settle 17 = .ok (.iaload, 1) := dk_46 (dk_at dksX3_settle_0 17 rfl rfl)
theorem dX3_settle_18 : decode cX3_settle 18 = .ok (.bipush 28, 2) := dk_16 28 (dk_at dksX3_settle_0 18 rfl rfl)
theorem dX3_settle_20 : decode cX3_settle 20 = .ok (.if_icmp .eq 25, 3) := dk_159 0 25 (dk_at dksX3_settle_0 20 rfl rfl)
theorem dX3_settle_23 : decode cX3_settle 23 = .ok (.aload_n 0, 1) := dk_42 (dk_at dksX3_settle_0 23 rfl rfl)
theorem dX3_settle_24 : decode cX3_settle 24 = .ok (.getfield 50, 3) := dk_180 0 50 (dk_at dksX3_settle_1 0 rfl rfl)
theorem dX3_settle_27 : decode cX3_settle 27 = .ok (.aload_n 0, 1) := dk_42 (dk_at dksX3_settle_1 3 rfl rfl)
theorem dX3_settle_28 : decode cX3_settle 28 = .ok (.getfield 209, 3) := dk_180 0 209 (dk_at dksX3_settle_1 4 rfl rfl)
theorem dX3_settle_31 : decode cX3_settle 31 = .ok (.iconst 1, 1) := dk_4 (dk_at dksX3_settle_1 7 rfl rfl)
theorem dX3_settle_32 : decode cX3_settle 32 = .ok (.isub, 1) := dk_100 (dk_at dksX3_settle_1 8 rfl rfl)
theorem dX3_settle_33 : decode cX3_settle 33 = .ok (.iaload, 1) := dk_46 (dk_at dksX3_settle_1 9 rfl rfl)
theorem dX3_settle_34 : decode cX3_settle 34 = .ok (.iload_n 1, 1) := dk_27 (dk_at dksX3_settle_1 10 rfl rfl)
theorem dX3_settle_35 : decode cX3_settle 35 = .ok (.if_icmp .lt 10, 3) := dk_161 0 10 (dk_at dksX3_settle_1 11 rfl rfl)
theorem dX3_settle_38 : decode cX3_settle 38 = .ok (.aload_n 0, 1) := dk_42 (dk_at dksX3_settle_1 14 rfl rfl)
theorem dX3_settle_39 : decode cX3_settle 39 = .ok (.invokevirtual 219, 3) := dk_182 0 219 (dk_at dksX3_settle_1 15 rfl rfl)
theorem dX3_settle_42 : decode cX3_settle 42 = .ok (.goto (-42), 3) := dk_167 255 214 (dk_at dksX3_settle_1 18 rfl rfl)
theorem dX3_settle_45 : decode cX3_settle 45 = .ok (.return_, 1) := dk_177 (dk_at dksX3_settle_1 21 rfl rfl)
abbrev cX3_pop : ByteArray := prog_16_method_22_code
def yX3_pop : MethodName := ⟨RX3, "pop", "()V"⟩
def dkwX3_pop_2 : List UInt8 := [177]
abbrev dktX3_pop_2 : List UInt8 := dkwX3_pop_2 ++ []
def dkwX3_pop_1 : List UInt8 := [42, 89, 180, 0, 212, 4, 100, 181, 0, 212, 42, 42, 180, 0, 50, 42, 180, 0, 209, 46, 3, 182, 0, 215]
abbrev dktX3_pop_1 : List UInt8 := dkwX3_pop_1 ++ dktX3_pop_2
def dkwX3_pop_0 : List UInt8 := [42, 89, 180, 0, 209, 4, 100, 181, 0, 209, 42, 180, 0, 50, 42, 180, 0, 209, 46, 16, 20, 160, 0, 13]
abbrev dktX3_pop_0 : List UInt8 := dkwX3_pop_0 ++ dktX3_pop_1
theorem dksX3_pop_0 : cX3_pop.data.toList.drop 0 = dktX3_pop_0 := by decide +kernel
theorem dksX3_pop_1 : cX3_pop.data.toList.drop 24 = dktX3_pop_1 := dk_seg dksX3_pop_0 24 rfl rfl
theorem dksX3_pop_2 : cX3_pop.data.toList.drop 48 = dktX3_pop_2 := dk_seg dksX3_pop_1 24 rfl rfl
theorem dX3_pop_0 : decode cX3_pop 0 = .ok (.aload_n 0, 1) := dk_42 (dk_at dksX3_pop_0 0 rfl rfl)
theorem dX3_pop_1 : decode cX3_pop 1 = .ok (.dup, 1) := dk_89 (dk_at dksX3_pop_0 1 rfl rfl)
theorem dX3_pop_2 : decode cX3_pop 2 = .ok (.getfield 209, 3) := dk_180 0 209 (dk_at dksX3_pop_0 2 rfl rfl)
theorem dX3_pop_5 : decode cX3_pop 5 = .ok (.iconst 1, 1) := dk_4 (dk_at dksX3_pop_0 5 rfl rfl)
theorem dX3_pop_6 : decode cX3_pop 6 = .ok (.isub, 1) := dk_100 (dk_at dksX3_pop_0 6 rfl rfl)
theorem dX3_pop_7 : decode cX3_pop 7 = .ok (.putfield 209, 3) := dk_181 0 209 (dk_at dksX3_pop_0 7 rfl rfl)
theorem dX3_pop_10 : decode cX3_pop 10 = .ok (.aload_n 0, 1) := dk_42 (dk_at dksX3_pop_0 10 rfl rfl)
theorem dX3_pop_11 : decode cX3_pop 11 = .ok (.getfield 50, 3) := dk_180 0 50 (dk_at dksX3_pop_0 11 rfl rfl)
theorem dX3_pop_14 : decode cX3_pop 14 = .ok (.aload_n 0, 1) := dk_42 (dk_at dksX3_pop_0 14 rfl rfl)
theorem dX3_pop_15 : decode cX3_pop 15 = .ok (.getfield 209, 3) := dk_180 0 209 (dk_at dksX3_pop_0 15 rfl rfl)
theorem dX3_pop_18 : decode cX3_pop 18 = .ok (.iaload, 1) := dk_46 (dk_at dksX3_pop_0 18 rfl rfl)
theorem dX3_pop_19 : decode cX3_pop 19 = .ok (.bipush 20, 2) := dk_16 20 (dk_at dksX3_pop_0 19 rfl rfl)
theorem dX3_pop_21 : decode cX3_pop 21 = .ok (.if_icmp .ne 13, 3) := dk_160 0 13 (dk_at dksX3_pop_0 21 rfl rfl)
theorem dX3_pop_24 : decode cX3_pop 24 = .ok (.aload_n 0, 1) := dk_42 (dk_at dksX3_pop_1 0 rfl rfl)
theorem dX3_pop_25 : decode cX3_pop 25 = .ok (.dup, 1) := dk_89 (dk_at dksX3_pop_1 1 rfl rfl)
theorem dX3_pop_26 : decode cX3_pop 26 = .ok (.getfield 212, 3) := dk_180 0 212 (dk_at dksX3_pop_1 2 rfl rfl)
theorem dX3_pop_29 : decode cX3_pop 29 = .ok (.iconst 1, 1) := dk_4 (dk_at dksX3_pop_1 5 rfl rfl)
theorem dX3_pop_30 : decode cX3_pop 30 = .ok (.isub, 1) := dk_100 (dk_at dksX3_pop_1 6 rfl rfl)
theorem dX3_pop_31 : decode cX3_pop 31 = .ok (.putfield 212, 3) := dk_181 0 212 (dk_at dksX3_pop_1 7 rfl rfl)
theorem dX3_pop_34 : decode cX3_pop 34 = .ok (.aload_n 0, 1) := dk_42 (dk_at dksX3_pop_1 10 rfl rfl)
theorem dX3_pop_35 : decode cX3_pop 35 = .ok (.aload_n 0, 1) := dk_42 (dk_at dksX3_pop_1 11 rfl rfl)
theorem dX3_pop_36 : decode cX3_pop 36 = .ok (.getfield 50, 3) := dk_180 0 50 (dk_at dksX3_pop_1 12 rfl rfl)
theorem dX3_pop_39 : decode cX3_pop 39 = .ok (.aload_n 0, 1) := dk_42 (dk_at dksX3_pop_1 15 rfl rfl)
theorem dX3_pop_40 : decode cX3_pop 40 = .ok (.getfield 209, 3) := dk_180 0 209 (dk_at dksX3_pop_1 16 rfl rfl)
theorem dX3_pop_43 : decode cX3_pop 43 = .ok (.iaload, 1) := dk_46 (dk_at dksX3_pop_1 19 rfl rfl)
theorem dX3_pop_44 : decode cX3_pop 44 = .ok (.iconst 0, 1) := dk_3 (dk_at dksX3_pop_1 20 rfl rfl)
theorem dX3_pop_45 : decode cX3_pop 45 = .ok (.invokevirtual 215, 3) := dk_182 0 215 (dk_at dksX3_pop_1 21 rfl rfl)
theorem dX3_pop_48 : decode cX3_pop 48 = .ok (.return_, 1) := dk_177 (dk_at dksX3_pop_2 0 rfl rfl)
abbrev cX3_step : ByteArray := prog_16_method_19_code
def yX3_step : MethodName := ⟨RX3, "step", "(II)V"⟩
def dkwX3_step_1 : List UInt8 := [180, 0, 200, 4, 96, 181, 0, 200, 177]
abbrev dktX3_step_1 : List UInt8 := dkwX3_step_1 ++ []
def dkwX3_step_0 : List UInt8 := [42, 180, 0, 41, 42, 180, 0, 200, 27, 79, 42, 180, 0, 44, 42, 180, 0, 200, 28, 79, 42, 89]
abbrev dktX3_step_0 : List UInt8 := dkwX3_step_0 ++ dktX3_step_1
theorem dksX3_step_0 : cX3_step.data.toList.drop 0 = dktX3_step_0 := by decide +kernel
theorem dksX3_step_1 : cX3_step.data.toList.drop 22 = dktX3_step_1 := dk_seg dksX3_step_0 22 rfl rfl
theorem dX3_step_0 : decode cX3_step 0 = .ok (.aload_n 0, 1) := dk_42 (dk_at dksX3_step_0 0 rfl rfl)
theorem dX3_step_1 : decode cX3_step 1 = .ok (.getfield 41, 3) := dk_180 0 41 (dk_at dksX3_step_0 1 rfl rfl)
theorem dX3_step_4 : decode cX3_step 4 = .ok (.aload_n 0, 1) := dk_42 (dk_at dksX3_step_0 4 rfl rfl)
theorem dX3_step_5 : decode cX3_step 5 = .ok (.getfield 200, 3) := dk_180 0 200 (dk_at dksX3_step_0 5 rfl rfl)
theorem dX3_step_8 : decode cX3_step 8 = .ok (.iload_n 1, 1) := dk_27 (dk_at dksX3_step_0 8 rfl rfl)
theorem dX3_step_9 : decode cX3_step 9 = .ok (.iastore, 1) := dk_79 (dk_at dksX3_step_0 9 rfl rfl)
theorem dX3_step_10 : decode cX3_step 10 = .ok (.aload_n 0, 1) := dk_42 (dk_at dksX3_step_0 10 rfl rfl)
theorem dX3_step_11 : decode cX3_step 11 = .ok (.getfield 44, 3) := dk_180 0 44 (dk_at dksX3_step_0 11 rfl rfl)
theorem dX3_step_14 : decode cX3_step 14 = .ok (.aload_n 0, 1) := dk_42 (dk_at dksX3_step_0 14 rfl rfl)
theorem dX3_step_15 : decode cX3_step 15 = .ok (.getfield 200, 3) := dk_180 0 200 (dk_at dksX3_step_0 15 rfl rfl)
theorem dX3_step_18 : decode cX3_step 18 = .ok (.iload_n 2, 1) := dk_28 (dk_at dksX3_step_0 18 rfl rfl)
theorem dX3_step_19 : decode cX3_step 19 = .ok (.iastore, 1) := dk_79 (dk_at dksX3_step_0 19 rfl rfl)
theorem dX3_step_20 : decode cX3_step 20 = .ok (.aload_n 0, 1) := dk_42 (dk_at dksX3_step_0 20 rfl rfl)
theorem dX3_step_21 : decode cX3_step 21 = .ok (.dup, 1) := dk_89 (dk_at dksX3_step_0 21 rfl rfl)
theorem dX3_step_22 : decode cX3_step 22 = .ok (.getfield 200, 3) := dk_180 0 200 (dk_at dksX3_step_1 0 rfl rfl)
theorem dX3_step_25 : decode cX3_step 25 = .ok (.iconst 1, 1) := dk_4 (dk_at dksX3_step_1 3 rfl rfl)
theorem dX3_step_26 : decode cX3_step 26 = .ok (.iadd, 1) := dk_96 (dk_at dksX3_step_1 4 rfl rfl)
theorem dX3_step_27 : decode cX3_step 27 = .ok (.putfield 200, 3) := dk_181 0 200 (dk_at dksX3_step_1 5 rfl rfl)
theorem dX3_step_30 : decode cX3_step 30 = .ok (.return_, 1) := dk_177 (dk_at dksX3_step_1 8 rfl rfl)
abbrev cX3_hold : ByteArray := prog_16_method_21_code
def yX3_hold : MethodName := ⟨RX3, "hold", "(I)V"⟩
def dkwX3_hold_1 : List UInt8 := [159, 0, 9, 27, 16, 20, 160, 0, 13, 42, 89, 180, 0, 212, 4, 96, 181, 0, 212, 177]
abbrev dktX3_hold_1 : List UInt8 := dkwX3_hold_1 ++ []
def dkwX3_hold_0 : List UInt8 := [42, 180, 0, 50, 42, 180, 0, 209, 27, 79, 42, 89, 180, 0, 209, 4, 96, 181, 0, 209, 27, 16, 28]
abbrev dktX3_hold_0 : List UInt8 := dkwX3_hold_0 ++ dktX3_hold_1
theorem dksX3_hold_0 : cX3_hold.data.toList.drop 0 = dktX3_hold_0 := by decide +kernel
theorem dksX3_hold_1 : cX3_hold.data.toList.drop 23 = dktX3_hold_1 := dk_seg dksX3_hold_0 23 rfl rfl
theorem dX3_hold_0 : decode cX3_hold 0 = .ok (.aload_n 0, 1) := dk_42 (dk_at dksX3_hold_0 0 rfl rfl)
theorem dX3_hold_1 : decode cX3_hold 1 = .ok (.getfield 50, 3) := dk_180 0 50 (dk_at dksX3_hold_0 1 rfl rfl)
theorem dX3_hold_4 : decode cX3_hold 4 = .ok (.aload_n 0, 1) := dk_42 (dk_at dksX3_hold_0 4 rfl rfl)
theorem dX3_hold_5 : decode cX3_hold 5 = .ok (.getfield 209, 3) := dk_180 0 209 (dk_at dksX3_hold_0 5 rfl rfl)
theorem dX3_hold_8 : decode cX3_hold 8 = .ok (.iload_n 1, 1) := dk_27 (dk_at dksX3_hold_0 8 rfl rfl)
theorem dX3_hold_9 : decode cX3_hold 9 = .ok (.iastore, 1) := dk_79 (dk_at dksX3_hold_0 9 rfl rfl)
theorem dX3_hold_10 : decode cX3_hold 10 = .ok (.aload_n 0, 1) := dk_42 (dk_at dksX3_hold_0 10 rfl rfl)
theorem dX3_hold_11 : decode cX3_hold 11 = .ok (.dup, 1) := dk_89 (dk_at dksX3_hold_0 11 rfl rfl)
theorem dX3_hold_12 : decode cX3_hold 12 = .ok (.getfield 209, 3) := dk_180 0 209 (dk_at dksX3_hold_0 12 rfl rfl)
theorem dX3_hold_15 : decode cX3_hold 15 = .ok (.iconst 1, 1) := dk_4 (dk_at dksX3_hold_0 15 rfl rfl)
theorem dX3_hold_16 : decode cX3_hold 16 = .ok (.iadd, 1) := dk_96 (dk_at dksX3_hold_0 16 rfl rfl)
theorem dX3_hold_17 : decode cX3_hold 17 = .ok (.putfield 209, 3) := dk_181 0 209 (dk_at dksX3_hold_0 17 rfl rfl)
theorem dX3_hold_20 : decode cX3_hold 20 = .ok (.iload_n 1, 1) := dk_27 (dk_at dksX3_hold_0 20 rfl rfl)
theorem dX3_hold_21 : decode cX3_hold 21 = .ok (.bipush 28, 2) := dk_16 28 (dk_at dksX3_hold_0 21 rfl rfl)
theorem dX3_hold_23 : decode cX3_hold 23 = .ok (.if_icmp .eq 9, 3) := dk_159 0 9 (dk_at dksX3_hold_1 0 rfl rfl)
theorem dX3_hold_26 : decode cX3_hold 26 = .ok (.iload_n 1, 1) := dk_27 (dk_at dksX3_hold_1 3 rfl rfl)
theorem dX3_hold_27 : decode cX3_hold 27 = .ok (.bipush 20, 2) := dk_16 20 (dk_at dksX3_hold_1 4 rfl rfl)
theorem dX3_hold_29 : decode cX3_hold 29 = .ok (.if_icmp .ne 13, 3) := dk_160 0 13 (dk_at dksX3_hold_1 6 rfl rfl)
theorem dX3_hold_32 : decode cX3_hold 32 = .ok (.aload_n 0, 1) := dk_42 (dk_at dksX3_hold_1 9 rfl rfl)
theorem dX3_hold_33 : decode cX3_hold 33 = .ok (.dup, 1) := dk_89 (dk_at dksX3_hold_1 10 rfl rfl)
theorem dX3_hold_34 : decode cX3_hold 34 = .ok (.getfield 212, 3) := dk_180 0 212 (dk_at dksX3_hold_1 11 rfl rfl)
theorem dX3_hold_37 : decode cX3_hold 37 = .ok (.iconst 1, 1) := dk_4 (dk_at dksX3_hold_1 14 rfl rfl)
theorem dX3_hold_38 : decode cX3_hold 38 = .ok (.iadd, 1) := dk_96 (dk_at dksX3_hold_1 15 rfl rfl)
theorem dX3_hold_39 : decode cX3_hold 39 = .ok (.putfield 212, 3) := dk_181 0 212 (dk_at dksX3_hold_1 16 rfl rfl)
theorem dX3_hold_42 : decode cX3_hold 42 = .ok (.return_, 1) := dk_177 (dk_at dksX3_hold_1 19 rfl rfl)
abbrev cX3_settleOnes : ByteArray := prog_16_method_28_code
def yX3_settleOnes : MethodName := ⟨RX3, "settleOnes", "(Z)V"⟩
def dkwX3_settleOnes_2 : List UInt8 := [167, 0, 4, 3, 61, 28, 153, 0, 7, 42, 182, 0, 219, 167, 255, 198, 177]
abbrev dktX3_settleOnes_2 : List UInt8 := dkwX3_settleOnes_2 ++ []
def dkwX3_settleOnes_1 : List UInt8 := [180, 0, 209, 4, 100, 46, 62, 29, 16, 28, 159, 0, 17, 27, 153, 0, 9, 29, 16, 21, 159, 0, 7, 4]
abbrev dktX3_settleOnes_1 : List UInt8 := dkwX3_settleOnes_1 ++ dktX3_settleOnes_2
def dkwX3_settleOnes_0 : List UInt8 := [4, 61, 28, 153, 0, 60, 42, 180, 0, 209, 154, 0, 8, 16, 28, 167, 0, 14, 42, 180, 0, 50, 42]
abbrev dktX3_settleOnes_0 : List UInt8 := dkwX3_settleOnes_0 ++ dktX3_settleOnes_1
theorem dksX3_settleOnes_0 : cX3_settleOnes.data.toList.drop 0 = dktX3_settleOnes_0 := by decide +kernel
theorem dksX3_settleOnes_1 : cX3_settleOnes.data.toList.drop 23 = dktX3_settleOnes_1 := dk_seg dksX3_settleOnes_0 23 rfl rfl
theorem dksX3_settleOnes_2 : cX3_settleOnes.data.toList.drop 47 = dktX3_settleOnes_2 := dk_seg dksX3_settleOnes_1 24 rfl rfl
theorem dX3_settleOnes_0 : decode cX3_settleOnes 0 = .ok (.iconst 1, 1) := dk_4 (dk_at dksX3_settleOnes_0 0 rfl rfl)
theorem dX3_settleOnes_1 : decode cX3_settleOnes 1 = .ok (.istore_n 2, 1) := dk_61 (dk_at dksX3_settleOnes_0 1 rfl rfl)
theorem dX3_settleOnes_2 : decode cX3_settleOnes 2 = .ok (.iload_n 2, 1) := dk_28 (dk_at dksX3_settleOnes_0 2 rfl rfl)
theorem dX3_settleOnes_3 : decode cX3_settleOnes 3 = .ok (.ifCond .eq 60, 3) := dk_153 0 60 (dk_at dksX3_settleOnes_0 3 rfl rfl)
theorem dX3_settleOnes_6 : decode cX3_settleOnes 6 = .ok (.aload_n 0, 1) := dk_42 (dk_at dksX3_settleOnes_0 6 rfl rfl)
theorem dX3_settleOnes_7 : decode cX3_settleOnes 7 = .ok (.getfield 209, 3) := dk_180 0 209 (dk_at dksX3_settleOnes_0 7 rfl rfl)
theorem dX3_settleOnes_10 : decode cX3_settleOnes 10 = .ok (.ifCond .ne 8, 3) := dk_154 0 8 (dk_at dksX3_settleOnes_0 10 rfl rfl)
theorem dX3_settleOnes_13 : decode cX3_settleOnes 13 = .ok (.bipush 28, 2) := dk_16 28 (dk_at dksX3_settleOnes_0 13 rfl rfl)
theorem dX3_settleOnes_15 : decode cX3_settleOnes 15 = .ok (.goto 14, 3) := dk_167 0 14 (dk_at dksX3_settleOnes_0 15 rfl rfl)
theorem dX3_settleOnes_18 : decode cX3_settleOnes 18 = .ok (.aload_n 0, 1) := dk_42 (dk_at dksX3_settleOnes_0 18 rfl rfl)
theorem dX3_settleOnes_19 : decode cX3_settleOnes 19 = .ok (.getfield 50, 3) := dk_180 0 50 (dk_at dksX3_settleOnes_0 19 rfl rfl)
theorem dX3_settleOnes_22 : decode cX3_settleOnes 22 = .ok (.aload_n 0, 1) := dk_42 (dk_at dksX3_settleOnes_0 22 rfl rfl)
theorem dX3_settleOnes_23 : decode cX3_settleOnes 23 = .ok (.getfield 209, 3) := dk_180 0 209 (dk_at dksX3_settleOnes_1 0 rfl rfl)
theorem dX3_settleOnes_26 : decode cX3_settleOnes 26 = .ok (.iconst 1, 1) := dk_4 (dk_at dksX3_settleOnes_1 3 rfl rfl)
theorem dX3_settleOnes_27 : decode cX3_settleOnes 27 = .ok (.isub, 1) := dk_100 (dk_at dksX3_settleOnes_1 4 rfl rfl)
theorem dX3_settleOnes_28 : decode cX3_settleOnes 28 = .ok (.iaload, 1) := dk_46 (dk_at dksX3_settleOnes_1 5 rfl rfl)
theorem dX3_settleOnes_29 : decode cX3_settleOnes 29 = .ok (.istore_n 3, 1) := dk_62 (dk_at dksX3_settleOnes_1 6 rfl rfl)
theorem dX3_settleOnes_30 : decode cX3_settleOnes 30 = .ok (.iload_n 3, 1) := dk_29 (dk_at dksX3_settleOnes_1 7 rfl rfl)
theorem dX3_settleOnes_31 : decode cX3_settleOnes 31 = .ok (.bipush 28, 2) := dk_16 28 (dk_at dksX3_settleOnes_1 8 rfl rfl)
theorem dX3_settleOnes_33 : decode cX3_settleOnes 33 = .ok (.if_icmp .eq 17, 3) := dk_159 0 17 (dk_at dksX3_settleOnes_1 10 rfl rfl)
theorem dX3_settleOnes_36 : decode cX3_settleOnes 36 = .ok (.iload_n 1, 1) := dk_27 (dk_at dksX3_settleOnes_1 13 rfl rfl)
theorem dX3_settleOnes_37 : decode cX3_settleOnes 37 = .ok (.ifCond .eq 9, 3) := dk_153 0 9 (dk_at dksX3_settleOnes_1 14 rfl rfl)
theorem dX3_settleOnes_40 : decode cX3_settleOnes 40 = .ok (.iload_n 3, 1) := dk_29 (dk_at dksX3_settleOnes_1 17 rfl rfl)
theorem dX3_settleOnes_41 : decode cX3_settleOnes 41 = .ok (.bipush 21, 2) := dk_16 21 (dk_at dksX3_settleOnes_1 18 rfl rfl)
theorem dX3_settleOnes_43 : decode cX3_settleOnes 43 = .ok (.if_icmp .eq 7, 3) := dk_159 0 7 (dk_at dksX3_settleOnes_1 20 rfl rfl)
theorem dX3_settleOnes_46 : decode cX3_settleOnes 46 = .ok (.iconst 1, 1) := dk_4 (dk_at dksX3_settleOnes_1 23 rfl rfl)
theorem dX3_settleOnes_47 : decode cX3_settleOnes 47 = .ok (.goto 4, 3) := dk_167 0 4 (dk_at dksX3_settleOnes_2 0 rfl rfl)
theorem dX3_settleOnes_50 : decode cX3_settleOnes 50 = .ok (.iconst 0, 1) := dk_3 (dk_at dksX3_settleOnes_2 3 rfl rfl)
theorem dX3_settleOnes_51 : decode cX3_settleOnes 51 = .ok (.istore_n 2, 1) := dk_61 (dk_at dksX3_settleOnes_2 4 rfl rfl)
theorem dX3_settleOnes_52 : decode cX3_settleOnes 52 = .ok (.iload_n 2, 1) := dk_28 (dk_at dksX3_settleOnes_2 5 rfl rfl)
theorem dX3_settleOnes_53 : decode cX3_settleOnes 53 = .ok (.ifCond .eq 7, 3) := dk_153 0 7 (dk_at dksX3_settleOnes_2 6 rfl rfl)
theorem dX3_settleOnes_56 : decode cX3_settleOnes 56 = .ok (.aload_n 0, 1) := dk_42 (dk_at dksX3_settleOnes_2 9 rfl rfl)
theorem dX3_settleOnes_57 : decode cX3_settleOnes 57 = .ok (.invokevirtual 219, 3) := dk_182 0 219 (dk_at dksX3_settleOnes_2 10 rfl rfl)
theorem dX3_settleOnes_60 : decode cX3_settleOnes 60 = .ok (.goto (-58), 3) := dk_167 255 198 (dk_at dksX3_settleOnes_2 13 rfl rfl)
theorem dX3_settleOnes_63 : decode cX3_settleOnes 63 = .ok (.return_, 1) := dk_177 (dk_at dksX3_settleOnes_2 16 rfl rfl)
abbrev cX3_operand : ByteArray := prog_16_method_26_code
def yX3_operand : MethodName := ⟨RX3, "operand", "(I)I"⟩
def dkwX3_operand_7 : List UInt8 := [182, 0, 206, 27, 5, 160, 0, 7, 7, 167, 0, 4, 6, 172]
abbrev dktX3_operand_7 : List UInt8 := dkwX3_operand_7 ++ []
def dkwX3_operand_6 : List UInt8 := [167, 0, 4, 3, 42, 180, 0, 171, 182, 0, 215, 42, 89, 180, 0, 245, 4, 96, 181, 0, 245, 42]
abbrev dktX3_operand_6 : List UInt8 := dkwX3_operand_6 ++ dktX3_operand_7
def dkwX3_operand_5 : List UInt8 := [167, 0, 5, 16, 20, 182, 0, 248, 42, 182, 0, 206, 3, 172, 42, 28, 155, 0, 10, 16, 10, 28, 96]
abbrev dktX3_operand_5 : List UInt8 := dkwX3_operand_5 ++ dktX3_operand_6
def dkwX3_operand_4 : List UInt8 := [180, 0, 187, 158, 0, 5, 27, 172, 29, 154, 0, 29, 42, 42, 180, 0, 174, 16, 40, 160, 0, 8, 16, 28]
abbrev dktX3_operand_4 : List UInt8 := dkwX3_operand_4 ++ dktX3_operand_5
def dkwX3_operand_3 : List UInt8 := [16, 6, 162, 0, 16, 29, 153, 0, 17, 42, 180, 0, 245, 16, 60, 160, 0, 8, 42, 5, 182, 0, 203, 42]
abbrev dktX3_operand_3 : List UInt8 := dkwX3_operand_3 ++ dktX3_operand_4
def dkwX3_operand_2 : List UInt8 := [153, 0, 7, 4, 167, 0, 4, 3, 54, 4, 21, 4, 153, 0, 29, 27, 154, 0, 12, 42, 180, 0, 212]
abbrev dktX3_operand_2 : List UInt8 := dkwX3_operand_2 ++ dktX3_operand_3
def dkwX3_operand_1 : List UInt8 := [154, 0, 26, 27, 154, 0, 26, 42, 180, 0, 174, 16, 40, 159, 0, 13, 42, 20, 0, 239, 182, 0, 241]
abbrev dktX3_operand_1 : List UInt8 := dkwX3_operand_1 ++ dktX3_operand_2
def dkwX3_operand_0 : List UInt8 := [42, 182, 0, 235, 61, 42, 180, 0, 174, 5, 159, 0, 7, 28, 155, 0, 7, 4, 167, 0, 4, 3, 62, 29]
abbrev dktX3_operand_0 : List UInt8 := dkwX3_operand_0 ++ dktX3_operand_1
theorem dksX3_operand_0 : cX3_operand.data.toList.drop 0 = dktX3_operand_0 := by decide +kernel
theorem dksX3_operand_1 : cX3_operand.data.toList.drop 24 = dktX3_operand_1 := dk_seg dksX3_operand_0 24 rfl rfl
theorem dksX3_operand_2 : cX3_operand.data.toList.drop 47 = dktX3_operand_2 := dk_seg dksX3_operand_1 23 rfl rfl
theorem dksX3_operand_3 : cX3_operand.data.toList.drop 70 = dktX3_operand_3 := dk_seg dksX3_operand_2 23 rfl rfl
theorem dksX3_operand_4 : cX3_operand.data.toList.drop 94 = dktX3_operand_4 := dk_seg dksX3_operand_3 24 rfl rfl
theorem dksX3_operand_5 : cX3_operand.data.toList.drop 118 = dktX3_operand_5 := dk_seg dksX3_operand_4 24 rfl rfl
theorem dksX3_operand_6 : cX3_operand.data.toList.drop 141 = dktX3_operand_6 := dk_seg dksX3_operand_5 23 rfl rfl
theorem dksX3_operand_7 : cX3_operand.data.toList.drop 163 = dktX3_operand_7 := dk_seg dksX3_operand_6 22 rfl rfl
theorem dX3_operand_0 : decode cX3_operand 0 = .ok (.aload_n 0, 1) := dk_42 (dk_at dksX3_operand_0 0 rfl rfl)
theorem dX3_operand_1 : decode cX3_operand 1 = .ok (.invokevirtual 235, 3) := dk_182 0 235 (dk_at dksX3_operand_0 1 rfl rfl)
theorem dX3_operand_4 : decode cX3_operand 4 = .ok (.istore_n 2, 1) := dk_61 (dk_at dksX3_operand_0 4 rfl rfl)
theorem dX3_operand_5 : decode cX3_operand 5 = .ok (.aload_n 0, 1) := dk_42 (dk_at dksX3_operand_0 5 rfl rfl)
theorem dX3_operand_6 : decode cX3_operand 6 = .ok (.getfield 174, 3) := dk_180 0 174 (dk_at dksX3_operand_0 6 rfl rfl)
theorem dX3_operand_9 : decode cX3_operand 9 = .ok (.iconst 2, 1) := dk_5 (dk_at dksX3_operand_0 9 rfl rfl)
theorem dX3_operand_10 : decode cX3_operand 10 = .ok (.if_icmp .eq 7, 3) := dk_159 0 7 (dk_at dksX3_operand_0 10 rfl rfl)
theorem dX3_operand_13 : decode cX3_operand 13 = .ok (.iload_n 2, 1) := dk_28 (dk_at dksX3_operand_0 13 rfl rfl)
theorem dX3_operand_14 : decode cX3_operand 14 = .ok (.ifCond .lt 7, 3) := dk_155 0 7 (dk_at dksX3_operand_0 14 rfl rfl)
theorem dX3_operand_17 : decode cX3_operand 17 = .ok (.iconst 1, 1) := dk_4 (dk_at dksX3_operand_0 17 rfl rfl)
theorem dX3_operand_18 : decode cX3_operand 18 = .ok (.goto 4, 3) := dk_167 0 4 (dk_at dksX3_operand_0 18 rfl rfl)
theorem dX3_operand_21 : decode cX3_operand 21 = .ok (.iconst 0, 1) := dk_3 (dk_at dksX3_operand_0 21 rfl rfl)
theorem dX3_operand_22 : decode cX3_operand 22 = .ok (.istore_n 3, 1) := dk_62 (dk_at dksX3_operand_0 22 rfl rfl)
theorem dX3_operand_23 : decode cX3_operand 23 = .ok (.iload_n 3, 1) := dk_29 (dk_at dksX3_operand_0 23 rfl rfl)
theorem dX3_operand_24 : decode cX3_operand 24 = .ok (.ifCond .ne 26, 3) := dk_154 0 26 (dk_at dksX3_operand_1 0 rfl rfl)
theorem dX3_operand_27 : decode cX3_operand 27 = .ok (.iload_n 1, 1) := dk_27 (dk_at dksX3_operand_1 3 rfl rfl)
theorem dX3_operand_28 : decode cX3_operand 28 = .ok (.ifCond .ne 26, 3) := dk_154 0 26 (dk_at dksX3_operand_1 4 rfl rfl)
theorem dX3_operand_31 : decode cX3_operand 31 = .ok (.aload_n 0, 1) := dk_42 (dk_at dksX3_operand_1 7 rfl rfl)
theorem dX3_operand_32 : decode cX3_operand 32 = .ok (.getfield 174, 3) := dk_180 0 174 (dk_at dksX3_operand_1 8 rfl rfl)
theorem dX3_operand_35 : decode cX3_operand 35 = .ok (.bipush 40, 2) := dk_16 40 (dk_at dksX3_operand_1 11 rfl rfl)
theorem dX3_operand_37 : decode cX3_operand 37 = .ok (.if_icmp .eq 13, 3) := dk_159 0 13 (dk_at dksX3_operand_1 13 rfl rfl)
theorem dX3_operand_40 : decode cX3_operand 40 = .ok (.aload_n 0, 1) := dk_42 (dk_at dksX3_operand_1 16 rfl rfl)
theorem dX3_operand_41 : decode cX3_operand 41 = .ok (.ldc2_w 239, 3) := dk_20 0 239 (dk_at dksX3_operand_1 17 rfl rfl)
theorem dX3_operand_44 : decode cX3_operand 44 = .ok (.invokevirtual 241, 3) := dk_182 0 241 (dk_at dksX3_operand_1 20 rfl rfl)
theorem dX3_operand_47 : decode cX3_operand 47 = .ok (.ifCond .eq 7, 3) := dk_153 0 7 (dk_at dksX3_operand_2 0 rfl rfl)
theorem dX3_operand_50 : decode cX3_operand 50 = .ok (.iconst 1, 1) := dk_4 (dk_at dksX3_operand_2 3 rfl rfl)
theorem dX3_operand_51 : decode cX3_operand 51 = .ok (.goto 4, 3) := dk_167 0 4 (dk_at dksX3_operand_2 4 rfl rfl)
theorem dX3_operand_54 : decode cX3_operand 54 = .ok (.iconst 0, 1) := dk_3 (dk_at dksX3_operand_2 7 rfl rfl)
theorem dX3_operand_55 : decode cX3_operand 55 = .ok (.istore 4, 2) := dk_54 4 (dk_at dksX3_operand_2 8 rfl rfl)
theorem dX3_operand_57 : decode cX3_operand 57 = .ok (.iload 4, 2) := dk_21 4 (dk_at dksX3_operand_2 10 rfl rfl)
theorem dX3_operand_59 : decode cX3_operand 59 = .ok (.ifCond .eq 29, 3) := dk_153 0 29 (dk_at dksX3_operand_2 12 rfl rfl)
theorem dX3_operand_62 : decode cX3_operand 62 = .ok (.iload_n 1, 1) := dk_27 (dk_at dksX3_operand_2 15 rfl rfl)
theorem dX3_operand_63 : decode cX3_operand 63 = .ok (.ifCond .ne 12, 3) := dk_154 0 12 (dk_at dksX3_operand_2 16 rfl rfl)
theorem dX3_operand_66 : decode cX3_operand 66 = .ok (.aload_n 0, 1) := dk_42 (dk_at dksX3_operand_2 19 rfl rfl)
theorem dX3_operand_67 : decode cX3_operand 67 = .ok (.getfield 212, 3) := dk_180 0 212 (dk_at dksX3_operand_2 20 rfl rfl)
theorem dX3_operand_70 : decode cX3_operand 70 = .ok (.bipush 6, 2) := dk_16 6 (dk_at dksX3_operand_3 0 rfl rfl)
theorem dX3_operand_72 : decode cX3_operand 72 = .ok (.if_icmp .ge 16, 3) := dk_162 0 16 (dk_at dksX3_operand_3 2 rfl rfl)
theorem dX3_operand_75 : decode cX3_operand 75 = .ok (.iload_n 3, 1) := dk_29 (dk_at dksX3_operand_3 5 rfl rfl)
theorem dX3_operand_76 : decode cX3_operand 76 = .ok (.ifCond .eq 17, 3) := dk_153 0 17 (dk_at dksX3_operand_3 6 rfl rfl)
theorem dX3_operand_79 : decode cX3_operand 79 = .ok (.aload_n 0, 1) := dk_42 (dk_at dksX3_operand_3 9 rfl rfl)
theorem dX3_operand_80 : decode cX3_operand 80 = .ok (.getfield 245, 3) := dk_180 0 245 (dk_at dksX3_operand_3 10 rfl rfl)
theorem dX3_operand_83 : decode cX3_operand 83 = .ok (.bipush 60, 2) := dk_16 60 (dk_at dksX3_operand_3 13 rfl rfl)
theorem dX3_operand_85 : decode cX3_operand 85 = .ok (.if_icmp .ne 8, 3) := dk_160 0 8 (dk_at dksX3_operand_3 15 rfl rfl)
theorem dX3_operand_88 : decode cX3_operand 88 = .ok (.aload_n 0, 1) := dk_42 (dk_at dksX3_operand_3 18 rfl rfl)
theorem dX3_operand_89 : decode cX3_operand 89 = .ok (.iconst 2, 1) := dk_5 (dk_at dksX3_operand_3 19 rfl rfl)
theorem dX3_operand_90 : decode cX3_operand 90 = .ok (.invokevirtual 203, 3) := dk_182 0 203 (dk_at dksX3_operand_3 20 rfl rfl)
theorem dX3_operand_93 : decode cX3_operand 93 = .ok (.aload_n 0, 1) := dk_42 (dk_at dksX3_operand_3 23 rfl rfl)
theorem dX3_operand_94 : decode cX3_operand 94 = .ok (.getfield 187, 3) := dk_180 0 187 (dk_at dksX3_operand_4 0 rfl rfl)
theorem dX3_operand_97 : decode cX3_operand 97 = .ok (.ifCond .le 5, 3) := dk_158 0 5 (dk_at dksX3_operand_4 3 rfl rfl)
theorem dX3_operand_100 : decode cX3_operand 100 = .ok (.iload_n 1, 1) := dk_27 (dk_at dksX3_operand_4 6 rfl rfl)
theorem dX3_operand_101 : decode cX3_operand 101 = .ok (.ireturn, 1) := dk_172 (dk_at dksX3_operand_4 7 rfl rfl)
theorem dX3_operand_102 : decode cX3_operand 102 = .ok (.iload_n 3, 1) := dk_29 (dk_at dksX3_operand_4 8 rfl rfl)
theorem dX3_operand_103 : decode cX3_operand 103 = .ok (.ifCond .ne 29, 3) := dk_154 0 29 (dk_at dksX3_operand_4 9 rfl rfl)
theorem dX3_operand_106 : decode cX3_operand 106 = .ok (.aload_n 0, 1) := dk_42 (dk_at dksX3_operand_4 12 rfl rfl)
theorem dX3_operand_107 : decode cX3_operand 107 = .ok (.aload_n 0, 1) := dk_42 (dk_at dksX3_operand_4 13 rfl rfl)
theorem dX3_operand_108 : decode cX3_operand 108 = .ok (.getfield 174, 3) := dk_180 0 174 (dk_at dksX3_operand_4 14 rfl rfl)
theorem dX3_operand_111 : decode cX3_operand 111 = .ok (.bipush 40, 2) := dk_16 40 (dk_at dksX3_operand_4 17 rfl rfl)
theorem dX3_operand_113 : decode cX3_operand 113 = .ok (.if_icmp .ne 8, 3) := dk_160 0 8 (dk_at dksX3_operand_4 19 rfl rfl)
theorem dX3_operand_116 : decode cX3_operand 116 = .ok (.bipush 28, 2) := dk_16 28 (dk_at dksX3_operand_4 22 rfl rfl)
theorem dX3_operand_118 : decode cX3_operand 118 = .ok (.goto 5, 3) := dk_167 0 5 (dk_at dksX3_operand_5 0 rfl rfl)
theorem dX3_operand_121 : decode cX3_operand 121 = .ok (.bipush 20, 2) := dk_16 20 (dk_at dksX3_operand_5 3 rfl rfl)
theorem dX3_operand_123 : decode cX3_operand 123 = .ok (.invokevirtual 248, 3) := dk_182 0 248 (dk_at dksX3_operand_5 5 rfl rfl)
theorem dX3_operand_126 : decode cX3_operand 126 = .ok (.aload_n 0, 1) := dk_42 (dk_at dksX3_operand_5 8 rfl rfl)
theorem dX3_operand_127 : decode cX3_operand 127 = .ok (.invokevirtual 206, 3) := dk_182 0 206 (dk_at dksX3_operand_5 9 rfl rfl)
theorem dX3_operand_130 : decode cX3_operand 130 = .ok (.iconst 0, 1) := dk_3 (dk_at dksX3_operand_5 12 rfl rfl)
theorem dX3_operand_131 : decode cX3_operand 131 = .ok (.ireturn, 1) := dk_172 (dk_at dksX3_operand_5 13 rfl rfl)
theorem dX3_operand_132 : decode cX3_operand 132 = .ok (.aload_n 0, 1) := dk_42 (dk_at dksX3_operand_5 14 rfl rfl)
theorem dX3_operand_133 : decode cX3_operand 133 = .ok (.iload_n 2, 1) := dk_28 (dk_at dksX3_operand_5 15 rfl rfl)
theorem dX3_operand_134 : decode cX3_operand 134 = .ok (.ifCond .lt 10, 3) := dk_155 0 10 (dk_at dksX3_operand_5 16 rfl rfl)
theorem dX3_operand_137 : decode cX3_operand 137 = .ok (.bipush 10, 2) := dk_16 10 (dk_at dksX3_operand_5 19 rfl rfl)
theorem dX3_operand_139 : decode cX3_operand 139 = .ok (.iload_n 2, 1) := dk_28 (dk_at dksX3_operand_5 21 rfl rfl)
theorem dX3_operand_140 : decode cX3_operand 140 = .ok (.iadd, 1) := dk_96 (dk_at dksX3_operand_5 22 rfl rfl)
theorem dX3_operand_141 : decode cX3_operand 141 = .ok (.goto 4, 3) := dk_167 0 4 (dk_at dksX3_operand_6 0 rfl rfl)
theorem dX3_operand_144 : decode cX3_operand 144 = .ok (.iconst 0, 1) := dk_3 (dk_at dksX3_operand_6 3 rfl rfl)
theorem dX3_operand_145 : decode cX3_operand 145 = .ok (.aload_n 0, 1) := dk_42 (dk_at dksX3_operand_6 4 rfl rfl)
theorem dX3_operand_146 : decode cX3_operand 146 = .ok (.getfield 171, 3) := dk_180 0 171 (dk_at dksX3_operand_6 5 rfl rfl)
theorem dX3_operand_149 : decode cX3_operand 149 = .ok (.invokevirtual 215, 3) := dk_182 0 215 (dk_at dksX3_operand_6 8 rfl rfl)
theorem dX3_operand_152 : decode cX3_operand 152 = .ok (.aload_n 0, 1) := dk_42 (dk_at dksX3_operand_6 11 rfl rfl)
theorem dX3_operand_153 : decode cX3_operand 153 = .ok (.dup, 1) := dk_89 (dk_at dksX3_operand_6 12 rfl rfl)
theorem dX3_operand_154 : decode cX3_operand 154 = .ok (.getfield 245, 3) := dk_180 0 245 (dk_at dksX3_operand_6 13 rfl rfl)
theorem dX3_operand_157 : decode cX3_operand 157 = .ok (.iconst 1, 1) := dk_4 (dk_at dksX3_operand_6 16 rfl rfl)
theorem dX3_operand_158 : decode cX3_operand 158 = .ok (.iadd, 1) := dk_96 (dk_at dksX3_operand_6 17 rfl rfl)
theorem dX3_operand_159 : decode cX3_operand 159 = .ok (.putfield 245, 3) := dk_181 0 245 (dk_at dksX3_operand_6 18 rfl rfl)
theorem dX3_operand_162 : decode cX3_operand 162 = .ok (.aload_n 0, 1) := dk_42 (dk_at dksX3_operand_6 21 rfl rfl)
theorem dX3_operand_163 : decode cX3_operand 163 = .ok (.invokevirtual 206, 3) := dk_182 0 206 (dk_at dksX3_operand_7 0 rfl rfl)
theorem dX3_operand_166 : decode cX3_operand 166 = .ok (.iload_n 1, 1) := dk_27 (dk_at dksX3_operand_7 3 rfl rfl)
theorem dX3_operand_167 : decode cX3_operand 167 = .ok (.iconst 2, 1) := dk_5 (dk_at dksX3_operand_7 4 rfl rfl)
theorem dX3_operand_168 : decode cX3_operand 168 = .ok (.if_icmp .ne 7, 3) := dk_160 0 7 (dk_at dksX3_operand_7 5 rfl rfl)
theorem dX3_operand_171 : decode cX3_operand 171 = .ok (.iconst 4, 1) := dk_7 (dk_at dksX3_operand_7 8 rfl rfl)
theorem dX3_operand_172 : decode cX3_operand 172 = .ok (.goto 4, 3) := dk_167 0 4 (dk_at dksX3_operand_7 9 rfl rfl)
theorem dX3_operand_175 : decode cX3_operand 175 = .ok (.iconst 3, 1) := dk_6 (dk_at dksX3_operand_7 12 rfl rfl)
theorem dX3_operand_176 : decode cX3_operand 176 = .ok (.ireturn, 1) := dk_172 (dk_at dksX3_operand_7 13 rfl rfl)
abbrev cX3_named : ByteArray := prog_16_method_18_code
def yX3_named : MethodName := ⟨RX3, "named", "()I"⟩
def dkwX3_named_3 : List UInt8 := [167, 0, 19, 42, 180, 0, 167, 20, 0, 198, 148, 154, 0, 7, 7, 167, 0, 4, 2, 172]
abbrev dktX3_named_3 : List UInt8 := dkwX3_named_3 ++ []
def dkwX3_named_2 : List UInt8 := [20, 0, 194, 148, 154, 0, 7, 5, 167, 0, 34, 42, 180, 0, 167, 20, 0, 196, 148, 154, 0, 7, 6]
abbrev dktX3_named_2 : List UInt8 := dkwX3_named_2 ++ dktX3_named_3
def dkwX3_named_1 : List UInt8 := [167, 0, 64, 42, 180, 0, 167, 20, 0, 192, 148, 154, 0, 7, 4, 167, 0, 49, 42, 180, 0, 167]
abbrev dktX3_named_1 : List UInt8 := dkwX3_named_1 ++ dktX3_named_2
def dkwX3_named_0 : List UInt8 := [42, 180, 0, 174, 4, 159, 0, 7, 2, 167, 0, 79, 42, 180, 0, 167, 20, 0, 190, 148, 154, 0, 7, 3]
abbrev dktX3_named_0 : List UInt8 := dkwX3_named_0 ++ dktX3_named_1
theorem dksX3_named_0 : cX3_named.data.toList.drop 0 = dktX3_named_0 := by decide +kernel
theorem dksX3_named_1 : cX3_named.data.toList.drop 24 = dktX3_named_1 := dk_seg dksX3_named_0 24 rfl rfl
theorem dksX3_named_2 : cX3_named.data.toList.drop 46 = dktX3_named_2 := dk_seg dksX3_named_1 22 rfl rfl
theorem dksX3_named_3 : cX3_named.data.toList.drop 69 = dktX3_named_3 := dk_seg dksX3_named_2 23 rfl rfl
theorem dX3_named_0 : decode cX3_named 0 = .ok (.aload_n 0, 1) := dk_42 (dk_at dksX3_named_0 0 rfl rfl)
theorem dX3_named_1 : decode cX3_named 1 = .ok (.getfield 174, 3) := dk_180 0 174 (dk_at dksX3_named_0 1 rfl rfl)
theorem dX3_named_4 : decode cX3_named 4 = .ok (.iconst 1, 1) := dk_4 (dk_at dksX3_named_0 4 rfl rfl)
theorem dX3_named_5 : decode cX3_named 5 = .ok (.if_icmp .eq 7, 3) := dk_159 0 7 (dk_at dksX3_named_0 5 rfl rfl)
theorem dX3_named_8 : decode cX3_named 8 = .ok (.iconst (-1), 1) := dk_2 (dk_at dksX3_named_0 8 rfl rfl)
theorem dX3_named_9 : decode cX3_named 9 = .ok (.goto 79, 3) := dk_167 0 79 (dk_at dksX3_named_0 9 rfl rfl)
theorem dX3_named_12 : decode cX3_named 12 = .ok (.aload_n 0, 1) := dk_42 (dk_at dksX3_named_0 12 rfl rfl)
theorem dX3_named_13 : decode cX3_named 13 = .ok (.getfield 167, 3) := dk_180 0 167 (dk_at dksX3_named_0 13 rfl rfl)
theorem dX3_named_16 : decode cX3_named 16 = .ok (.ldc2_w 190, 3) := dk_20 0 190 (dk_at dksX3_named_0 16 rfl rfl)
theorem dX3_named_19 : decode cX3_named 19 = .ok (.lcmp, 1) := dk_148 (dk_at dksX3_named_0 19 rfl rfl)
theorem dX3_named_20 : decode cX3_named 20 = .ok (.ifCond .ne 7, 3) := dk_154 0 7 (dk_at dksX3_named_0 20 rfl rfl)
theorem dX3_named_23 : decode cX3_named 23 = .ok (.iconst 0, 1) := dk_3 (dk_at dksX3_named_0 23 rfl rfl)
theorem dX3_named_24 : decode cX3_named 24 = .ok (.goto 64, 3) := dk_167 0 64 (dk_at dksX3_named_1 0 rfl rfl)
theorem dX3_named_27 : decode cX3_named 27 = .ok (.aload_n 0, 1) := dk_42 (dk_at dksX3_named_1 3 rfl rfl)
theorem dX3_named_28 : decode cX3_named 28 = .ok (.getfield 167, 3) := dk_180 0 167 (dk_at dksX3_named_1 4 rfl rfl)
theorem dX3_named_31 : decode cX3_named 31 = .ok (.ldc2_w 192, 3) := dk_20 0 192 (dk_at dksX3_named_1 7 rfl rfl)
theorem dX3_named_34 : decode cX3_named 34 = .ok (.lcmp, 1) := dk_148 (dk_at dksX3_named_1 10 rfl rfl)
theorem dX3_named_35 : decode cX3_named 35 = .ok (.ifCond .ne 7, 3) := dk_154 0 7 (dk_at dksX3_named_1 11 rfl rfl)
theorem dX3_named_38 : decode cX3_named 38 = .ok (.iconst 1, 1) := dk_4 (dk_at dksX3_named_1 14 rfl rfl)
theorem dX3_named_39 : decode cX3_named 39 = .ok (.goto 49, 3) := dk_167 0 49 (dk_at dksX3_named_1 15 rfl rfl)
theorem dX3_named_42 : decode cX3_named 42 = .ok (.aload_n 0, 1) := dk_42 (dk_at dksX3_named_1 18 rfl rfl)
theorem dX3_named_43 : decode cX3_named 43 = .ok (.getfield 167, 3) := dk_180 0 167 (dk_at dksX3_named_1 19 rfl rfl)
theorem dX3_named_46 : decode cX3_named 46 = .ok (.ldc2_w 194, 3) := dk_20 0 194 (dk_at dksX3_named_2 0 rfl rfl)
theorem dX3_named_49 : decode cX3_named 49 = .ok (.lcmp, 1) := dk_148 (dk_at dksX3_named_2 3 rfl rfl)
theorem dX3_named_50 : decode cX3_named 50 = .ok (.ifCond .ne 7, 3) := dk_154 0 7 (dk_at dksX3_named_2 4 rfl rfl)
theorem dX3_named_53 : decode cX3_named 53 = .ok (.iconst 2, 1) := dk_5 (dk_at dksX3_named_2 7 rfl rfl)
theorem dX3_named_54 : decode cX3_named 54 = .ok (.goto 34, 3) := dk_167 0 34 (dk_at dksX3_named_2 8 rfl rfl)
theorem dX3_named_57 : decode cX3_named 57 = .ok (.aload_n 0, 1) := dk_42 (dk_at dksX3_named_2 11 rfl rfl)
theorem dX3_named_58 : decode cX3_named 58 = .ok (.getfield 167, 3) := dk_180 0 167 (dk_at dksX3_named_2 12 rfl rfl)
theorem dX3_named_61 : decode cX3_named 61 = .ok (.ldc2_w 196, 3) := dk_20 0 196 (dk_at dksX3_named_2 15 rfl rfl)
theorem dX3_named_64 : decode cX3_named 64 = .ok (.lcmp, 1) := dk_148 (dk_at dksX3_named_2 18 rfl rfl)
theorem dX3_named_65 : decode cX3_named 65 = .ok (.ifCond .ne 7, 3) := dk_154 0 7 (dk_at dksX3_named_2 19 rfl rfl)
theorem dX3_named_68 : decode cX3_named 68 = .ok (.iconst 3, 1) := dk_6 (dk_at dksX3_named_2 22 rfl rfl)
theorem dX3_named_69 : decode cX3_named 69 = .ok (.goto 19, 3) := dk_167 0 19 (dk_at dksX3_named_3 0 rfl rfl)
theorem dX3_named_72 : decode cX3_named 72 = .ok (.aload_n 0, 1) := dk_42 (dk_at dksX3_named_3 3 rfl rfl)
theorem dX3_named_73 : decode cX3_named 73 = .ok (.getfield 167, 3) := dk_180 0 167 (dk_at dksX3_named_3 4 rfl rfl)
theorem dX3_named_76 : decode cX3_named 76 = .ok (.ldc2_w 198, 3) := dk_20 0 198 (dk_at dksX3_named_3 7 rfl rfl)
theorem dX3_named_79 : decode cX3_named 79 = .ok (.lcmp, 1) := dk_148 (dk_at dksX3_named_3 10 rfl rfl)
theorem dX3_named_80 : decode cX3_named 80 = .ok (.ifCond .ne 7, 3) := dk_154 0 7 (dk_at dksX3_named_3 11 rfl rfl)
theorem dX3_named_83 : decode cX3_named 83 = .ok (.iconst 4, 1) := dk_7 (dk_at dksX3_named_3 14 rfl rfl)
theorem dX3_named_84 : decode cX3_named 84 = .ok (.goto 4, 3) := dk_167 0 4 (dk_at dksX3_named_3 15 rfl rfl)
theorem dX3_named_87 : decode cX3_named 87 = .ok (.iconst (-1), 1) := dk_2 (dk_at dksX3_named_3 18 rfl rfl)
theorem dX3_named_88 : decode cX3_named 88 = .ok (.ireturn, 1) := dk_172 (dk_at dksX3_named_3 19 rfl rfl)
abbrev cX3_fault : ByteArray := prog_16_method_31_code
def yX3_fault : MethodName := ⟨RX3, "fault", "(I)I"⟩
def dkwX3_fault_1 : List UInt8 := [172]
abbrev dktX3_fault_1 : List UInt8 := dkwX3_fault_1 ++ []
def dkwX3_fault_0 : List UInt8 := [27, 154, 0, 10, 42, 180, 0, 187, 167, 0, 16, 27, 4, 160, 0, 10, 42, 180, 0, 16, 167, 0, 4, 2]
abbrev dktX3_fault_0 : List UInt8 := dkwX3_fault_0 ++ dktX3_fault_1
theorem dksX3_fault_0 : cX3_fault.data.toList.drop 0 = dktX3_fault_0 := by decide +kernel
theorem dksX3_fault_1 : cX3_fault.data.toList.drop 24 = dktX3_fault_1 := dk_seg dksX3_fault_0 24 rfl rfl
theorem dX3_fault_0 : decode cX3_fault 0 = .ok (.iload_n 1, 1) := dk_27 (dk_at dksX3_fault_0 0 rfl rfl)
theorem dX3_fault_1 : decode cX3_fault 1 = .ok (.ifCond .ne 10, 3) := dk_154 0 10 (dk_at dksX3_fault_0 1 rfl rfl)
theorem dX3_fault_4 : decode cX3_fault 4 = .ok (.aload_n 0, 1) := dk_42 (dk_at dksX3_fault_0 4 rfl rfl)
theorem dX3_fault_5 : decode cX3_fault 5 = .ok (.getfield 187, 3) := dk_180 0 187 (dk_at dksX3_fault_0 5 rfl rfl)
theorem dX3_fault_8 : decode cX3_fault 8 = .ok (.goto 16, 3) := dk_167 0 16 (dk_at dksX3_fault_0 8 rfl rfl)
theorem dX3_fault_11 : decode cX3_fault 11 = .ok (.iload_n 1, 1) := dk_27 (dk_at dksX3_fault_0 11 rfl rfl)
theorem dX3_fault_12 : decode cX3_fault 12 = .ok (.iconst 1, 1) := dk_4 (dk_at dksX3_fault_0 12 rfl rfl)
theorem dX3_fault_13 : decode cX3_fault 13 = .ok (.if_icmp .ne 10, 3) := dk_160 0 10 (dk_at dksX3_fault_0 13 rfl rfl)
theorem dX3_fault_16 : decode cX3_fault 16 = .ok (.aload_n 0, 1) := dk_42 (dk_at dksX3_fault_0 16 rfl rfl)
theorem dX3_fault_17 : decode cX3_fault 17 = .ok (.getfield 16, 3) := dk_180 0 16 (dk_at dksX3_fault_0 17 rfl rfl)
theorem dX3_fault_20 : decode cX3_fault 20 = .ok (.goto 4, 3) := dk_167 0 4 (dk_at dksX3_fault_0 20 rfl rfl)
theorem dX3_fault_23 : decode cX3_fault 23 = .ok (.iconst (-1), 1) := dk_2 (dk_at dksX3_fault_0 23 rfl rfl)
theorem dX3_fault_24 : decode cX3_fault 24 = .ok (.ireturn, 1) := dk_172 (dk_at dksX3_fault_1 0 rfl rfl)
abbrev cX3_leaf : ByteArray := prog_16_method_33_code
def yX3_leaf : MethodName := ⟨RX3, "leaf", "()I"⟩
def dkwX3_leaf_4 : List UInt8 := [132, 1, 1, 167, 255, 230, 42, 42, 180, 0, 157, 181, 1, 28, 42, 180, 1, 28, 172]
abbrev dktX3_leaf_4 : List UInt8 := dkwX3_leaf_4 ++ []
def dkwX3_leaf_3 : List UInt8 := [60, 27, 42, 180, 0, 157, 162, 0, 24, 42, 180, 0, 53, 27, 42, 180, 0, 13, 27, 46, 184, 1, 25, 79]
abbrev dktX3_leaf_3 : List UInt8 := dkwX3_leaf_3 ++ dktX3_leaf_4
def dkwX3_leaf_2 : List UInt8 := [181, 0, 187, 42, 27, 181, 0, 16, 132, 1, 1, 167, 255, 206, 42, 180, 0, 187, 158, 0, 5, 2, 172, 3]
abbrev dktX3_leaf_2 : List UInt8 := dkwX3_leaf_2 ++ dktX3_leaf_3
def dkwX3_leaf_1 : List UInt8 := [17, 1, 44, 162, 0, 18, 42, 180, 0, 13, 27, 46, 184, 1, 25, 155, 0, 6, 167, 0, 13, 42, 4]
abbrev dktX3_leaf_1 : List UInt8 := dkwX3_leaf_1 ++ dktX3_leaf_2
def dkwX3_leaf_0 : List UInt8 := [42, 182, 1, 3, 3, 60, 27, 42, 180, 0, 157, 162, 0, 48, 42, 180, 0, 187, 154, 0, 41, 27]
abbrev dktX3_leaf_0 : List UInt8 := dkwX3_leaf_0 ++ dktX3_leaf_1
theorem dksX3_leaf_0 : cX3_leaf.data.toList.drop 0 = dktX3_leaf_0 := by decide +kernel
theorem dksX3_leaf_1 : cX3_leaf.data.toList.drop 22 = dktX3_leaf_1 := dk_seg dksX3_leaf_0 22 rfl rfl
theorem dksX3_leaf_2 : cX3_leaf.data.toList.drop 45 = dktX3_leaf_2 := dk_seg dksX3_leaf_1 23 rfl rfl
theorem dksX3_leaf_3 : cX3_leaf.data.toList.drop 69 = dktX3_leaf_3 := dk_seg dksX3_leaf_2 24 rfl rfl
theorem dksX3_leaf_4 : cX3_leaf.data.toList.drop 93 = dktX3_leaf_4 := dk_seg dksX3_leaf_3 24 rfl rfl
theorem dX3_leaf_0 : decode cX3_leaf 0 = .ok (.aload_n 0, 1) := dk_42 (dk_at dksX3_leaf_0 0 rfl rfl)
theorem dX3_leaf_1 : decode cX3_leaf 1 = .ok (.invokevirtual 259, 3) := dk_182 1 3 (dk_at dksX3_leaf_0 1 rfl rfl)
theorem dX3_leaf_4 : decode cX3_leaf 4 = .ok (.iconst 0, 1) := dk_3 (dk_at dksX3_leaf_0 4 rfl rfl)
theorem dX3_leaf_5 : decode cX3_leaf 5 = .ok (.istore_n 1, 1) := dk_60 (dk_at dksX3_leaf_0 5 rfl rfl)
theorem dX3_leaf_6 : decode cX3_leaf 6 = .ok (.iload_n 1, 1) := dk_27 (dk_at dksX3_leaf_0 6 rfl rfl)
theorem dX3_leaf_7 : decode cX3_leaf 7 = .ok (.aload_n 0, 1) := dk_42 (dk_at dksX3_leaf_0 7 rfl rfl)
theorem dX3_leaf_8 : decode cX3_leaf 8 = .ok (.getfield 157, 3) := dk_180 0 157 (dk_at dksX3_leaf_0 8 rfl rfl)
theorem dX3_leaf_11 : decode cX3_leaf 11 = .ok (.if_icmp .ge 48, 3) := dk_162 0 48 (dk_at dksX3_leaf_0 11 rfl rfl)
theorem dX3_leaf_14 : decode cX3_leaf 14 = .ok (.aload_n 0, 1) := dk_42 (dk_at dksX3_leaf_0 14 rfl rfl)
theorem dX3_leaf_15 : decode cX3_leaf 15 = .ok (.getfield 187, 3) := dk_180 0 187 (dk_at dksX3_leaf_0 15 rfl rfl)
theorem dX3_leaf_18 : decode cX3_leaf 18 = .ok (.ifCond .ne 41, 3) := dk_154 0 41 (dk_at dksX3_leaf_0 18 rfl rfl)
theorem dX3_leaf_21 : decode cX3_leaf 21 = .ok (.iload_n 1, 1) := dk_27 (dk_at dksX3_leaf_0 21 rfl rfl)
theorem dX3_leaf_22 : decode cX3_leaf 22 = .ok (.sipush 300, 3) := dk_17 1 44 (dk_at dksX3_leaf_1 0 rfl rfl)
theorem dX3_leaf_25 : decode cX3_leaf 25 = .ok (.if_icmp .ge 18, 3) := dk_162 0 18 (dk_at dksX3_leaf_1 3 rfl rfl)
theorem dX3_leaf_28 : decode cX3_leaf 28 = .ok (.aload_n 0, 1) := dk_42 (dk_at dksX3_leaf_1 6 rfl rfl)
theorem dX3_leaf_29 : decode cX3_leaf 29 = .ok (.getfield 13, 3) := dk_180 0 13 (dk_at dksX3_leaf_1 7 rfl rfl)
theorem dX3_leaf_32 : decode cX3_leaf 32 = .ok (.iload_n 1, 1) := dk_27 (dk_at dksX3_leaf_1 10 rfl rfl)
theorem dX3_leaf_33 : decode cX3_leaf 33 = .ok (.iaload, 1) := dk_46 (dk_at dksX3_leaf_1 11 rfl rfl)
theorem dX3_leaf_34 : decode cX3_leaf 34 = .ok (.invokestatic 281, 3) := dk_184 1 25 (dk_at dksX3_leaf_1 12 rfl rfl)
theorem dX3_leaf_37 : decode cX3_leaf 37 = .ok (.ifCond .lt 6, 3) := dk_155 0 6 (dk_at dksX3_leaf_1 15 rfl rfl)
theorem dX3_leaf_40 : decode cX3_leaf 40 = .ok (.goto 13, 3) := dk_167 0 13 (dk_at dksX3_leaf_1 18 rfl rfl)
theorem dX3_leaf_43 : decode cX3_leaf 43 = .ok (.aload_n 0, 1) := dk_42 (dk_at dksX3_leaf_1 21 rfl rfl)
theorem dX3_leaf_44 : decode cX3_leaf 44 = .ok (.iconst 1, 1) := dk_4 (dk_at dksX3_leaf_1 22 rfl rfl)
theorem dX3_leaf_45 : decode cX3_leaf 45 = .ok (.putfield 187, 3) := dk_181 0 187 (dk_at dksX3_leaf_2 0 rfl rfl)
theorem dX3_leaf_48 : decode cX3_leaf 48 = .ok (.aload_n 0, 1) := dk_42 (dk_at dksX3_leaf_2 3 rfl rfl)
theorem dX3_leaf_49 : decode cX3_leaf 49 = .ok (.iload_n 1, 1) := dk_27 (dk_at dksX3_leaf_2 4 rfl rfl)
theorem dX3_leaf_50 : decode cX3_leaf 50 = .ok (.putfield 16, 3) := dk_181 0 16 (dk_at dksX3_leaf_2 5 rfl rfl)
theorem dX3_leaf_53 : decode cX3_leaf 53 = .ok (.iinc 1 1, 3) := dk_132 1 1 (dk_at dksX3_leaf_2 8 rfl rfl)
theorem dX3_leaf_56 : decode cX3_leaf 56 = .ok (.goto (-50), 3) := dk_167 255 206 (dk_at dksX3_leaf_2 11 rfl rfl)
theorem dX3_leaf_59 : decode cX3_leaf 59 = .ok (.aload_n 0, 1) := dk_42 (dk_at dksX3_leaf_2 14 rfl rfl)
theorem dX3_leaf_60 : decode cX3_leaf 60 = .ok (.getfield 187, 3) := dk_180 0 187 (dk_at dksX3_leaf_2 15 rfl rfl)
theorem dX3_leaf_63 : decode cX3_leaf 63 = .ok (.ifCond .le 5, 3) := dk_158 0 5 (dk_at dksX3_leaf_2 18 rfl rfl)
theorem dX3_leaf_66 : decode cX3_leaf 66 = .ok (.iconst (-1), 1) := dk_2 (dk_at dksX3_leaf_2 21 rfl rfl)
theorem dX3_leaf_67 : decode cX3_leaf 67 = .ok (.ireturn, 1) := dk_172 (dk_at dksX3_leaf_2 22 rfl rfl)
theorem dX3_leaf_68 : decode cX3_leaf 68 = .ok (.iconst 0, 1) := dk_3 (dk_at dksX3_leaf_2 23 rfl rfl)
theorem dX3_leaf_69 : decode cX3_leaf 69 = .ok (.istore_n 1, 1) := dk_60 (dk_at dksX3_leaf_3 0 rfl rfl)
theorem dX3_leaf_70 : decode cX3_leaf 70 = .ok (.iload_n 1, 1) := dk_27 (dk_at dksX3_leaf_3 1 rfl rfl)
theorem dX3_leaf_71 : decode cX3_leaf 71 = .ok (.aload_n 0, 1) := dk_42 (dk_at dksX3_leaf_3 2 rfl rfl)
theorem dX3_leaf_72 : decode cX3_leaf 72 = .ok (.getfield 157, 3) := dk_180 0 157 (dk_at dksX3_leaf_3 3 rfl rfl)
theorem dX3_leaf_75 : decode cX3_leaf 75 = .ok (.if_icmp .ge 24, 3) := dk_162 0 24 (dk_at dksX3_leaf_3 6 rfl rfl)
theorem dX3_leaf_78 : decode cX3_leaf 78 = .ok (.aload_n 0, 1) := dk_42 (dk_at dksX3_leaf_3 9 rfl rfl)
theorem dX3_leaf_79 : decode cX3_leaf 79 = .ok (.getfield 53, 3) := dk_180 0 53 (dk_at dksX3_leaf_3 10 rfl rfl)
theorem dX3_leaf_82 : decode cX3_leaf 82 = .ok (.iload_n 1, 1) := dk_27 (dk_at dksX3_leaf_3 13 rfl rfl)
theorem dX3_leaf_83 : decode cX3_leaf 83 = .ok (.aload_n 0, 1) := dk_42 (dk_at dksX3_leaf_3 14 rfl rfl)
theorem dX3_leaf_84 : decode cX3_leaf 84 = .ok (.getfield 13, 3) := dk_180 0 13 (dk_at dksX3_leaf_3 15 rfl rfl)
theorem dX3_leaf_87 : decode cX3_leaf 87 = .ok (.iload_n 1, 1) := dk_27 (dk_at dksX3_leaf_3 18 rfl rfl)
theorem dX3_leaf_88 : decode cX3_leaf 88 = .ok (.iaload, 1) := dk_46 (dk_at dksX3_leaf_3 19 rfl rfl)
theorem dX3_leaf_89 : decode cX3_leaf 89 = .ok (.invokestatic 281, 3) := dk_184 1 25 (dk_at dksX3_leaf_3 20 rfl rfl)
theorem dX3_leaf_92 : decode cX3_leaf 92 = .ok (.iastore, 1) := dk_79 (dk_at dksX3_leaf_3 23 rfl rfl)
theorem dX3_leaf_93 : decode cX3_leaf 93 = .ok (.iinc 1 1, 3) := dk_132 1 1 (dk_at dksX3_leaf_4 0 rfl rfl)
theorem dX3_leaf_96 : decode cX3_leaf 96 = .ok (.goto (-26), 3) := dk_167 255 230 (dk_at dksX3_leaf_4 3 rfl rfl)
theorem dX3_leaf_99 : decode cX3_leaf 99 = .ok (.aload_n 0, 1) := dk_42 (dk_at dksX3_leaf_4 6 rfl rfl)
theorem dX3_leaf_100 : decode cX3_leaf 100 = .ok (.aload_n 0, 1) := dk_42 (dk_at dksX3_leaf_4 7 rfl rfl)
theorem dX3_leaf_101 : decode cX3_leaf 101 = .ok (.getfield 157, 3) := dk_180 0 157 (dk_at dksX3_leaf_4 8 rfl rfl)
theorem dX3_leaf_104 : decode cX3_leaf 104 = .ok (.putfield 284, 3) := dk_181 1 28 (dk_at dksX3_leaf_4 11 rfl rfl)
theorem dX3_leaf_107 : decode cX3_leaf 107 = .ok (.aload_n 0, 1) := dk_42 (dk_at dksX3_leaf_4 14 rfl rfl)
theorem dX3_leaf_108 : decode cX3_leaf 108 = .ok (.getfield 284, 3) := dk_180 1 28 (dk_at dksX3_leaf_4 15 rfl rfl)
theorem dX3_leaf_111 : decode cX3_leaf 111 = .ok (.ireturn, 1) := dk_172 (dk_at dksX3_leaf_4 18 rfl rfl)
abbrev cX3_markOf : ByteArray := prog_16_method_32_code
def yX3_markOf : MethodName := ⟨RX3, "markOf", "(I)I"⟩
def dkwX3_markOf_2 : List UInt8 := [167, 0, 4, 2, 172]
abbrev dktX3_markOf_2 : List UInt8 := dkwX3_markOf_2 ++ []
def dkwX3_markOf_1 : List UInt8 := [160, 0, 7, 4, 167, 0, 24, 26, 16, 111, 160, 0, 7, 5, 167, 0, 14, 26, 16, 112, 160, 0, 7, 6]
abbrev dktX3_markOf_1 : List UInt8 := dkwX3_markOf_1 ++ dktX3_markOf_2
def dkwX3_markOf_0 : List UInt8 := [26, 16, 46, 160, 0, 7, 7, 167, 0, 44, 26, 16, 107, 160, 0, 7, 3, 167, 0, 34, 26, 16, 115]
abbrev dktX3_markOf_0 : List UInt8 := dkwX3_markOf_0 ++ dktX3_markOf_1
theorem dksX3_markOf_0 : cX3_markOf.data.toList.drop 0 = dktX3_markOf_0 := by decide +kernel
theorem dksX3_markOf_1 : cX3_markOf.data.toList.drop 23 = dktX3_markOf_1 := dk_seg dksX3_markOf_0 23 rfl rfl
theorem dksX3_markOf_2 : cX3_markOf.data.toList.drop 47 = dktX3_markOf_2 := dk_seg dksX3_markOf_1 24 rfl rfl
theorem dX3_markOf_0 : decode cX3_markOf 0 = .ok (.iload_n 0, 1) := dk_26 (dk_at dksX3_markOf_0 0 rfl rfl)
theorem dX3_markOf_1 : decode cX3_markOf 1 = .ok (.bipush 46, 2) := dk_16 46 (dk_at dksX3_markOf_0 1 rfl rfl)
theorem dX3_markOf_3 : decode cX3_markOf 3 = .ok (.if_icmp .ne 7, 3) := dk_160 0 7 (dk_at dksX3_markOf_0 3 rfl rfl)
theorem dX3_markOf_6 : decode cX3_markOf 6 = .ok (.iconst 4, 1) := dk_7 (dk_at dksX3_markOf_0 6 rfl rfl)
theorem dX3_markOf_7 : decode cX3_markOf 7 = .ok (.goto 44, 3) := dk_167 0 44 (dk_at dksX3_markOf_0 7 rfl rfl)
theorem dX3_markOf_10 : decode cX3_markOf 10 = .ok (.iload_n 0, 1) := dk_26 (dk_at dksX3_markOf_0 10 rfl rfl)
theorem dX3_markOf_11 : decode cX3_markOf 11 = .ok (.bipush 107, 2) := dk_16 107 (dk_at dksX3_markOf_0 11 rfl rfl)
theorem dX3_markOf_13 : decode cX3_markOf 13 = .ok (.if_icmp .ne 7, 3) := dk_160 0 7 (dk_at dksX3_markOf_0 13 rfl rfl)
theorem dX3_markOf_16 : decode cX3_markOf 16 = .ok (.iconst 0, 1) := dk_3 (dk_at dksX3_markOf_0 16 rfl rfl)
theorem dX3_markOf_17 : decode cX3_markOf 17 = .ok (.goto 34, 3) := dk_167 0 34 (dk_at dksX3_markOf_0 17 rfl rfl)
theorem dX3_markOf_20 : decode cX3_markOf 20 = .ok (.iload_n 0, 1) := dk_26 (dk_at dksX3_markOf_0 20 rfl rfl)
theorem dX3_markOf_21 : decode cX3_markOf 21 = .ok (.bipush 115, 2) := dk_16 115 (dk_at dksX3_markOf_0 21 rfl rfl)
theorem dX3_markOf_23 : decode cX3_markOf 23 = .ok (.if_icmp .ne 7, 3) := dk_160 0 7 (dk_at dksX3_markOf_1 0 rfl rfl)
theorem dX3_markOf_26 : decode cX3_markOf 26 = .ok (.iconst 1, 1) := dk_4 (dk_at dksX3_markOf_1 3 rfl rfl)
theorem dX3_markOf_27 : decode cX3_markOf 27 = .ok (.goto 24, 3) := dk_167 0 24 (dk_at dksX3_markOf_1 4 rfl rfl)
theorem dX3_markOf_30 : decode cX3_markOf 30 = .ok (.iload_n 0, 1) := dk_26 (dk_at dksX3_markOf_1 7 rfl rfl)
theorem dX3_markOf_31 : decode cX3_markOf 31 = .ok (.bipush 111, 2) := dk_16 111 (dk_at dksX3_markOf_1 8 rfl rfl)
theorem dX3_markOf_33 : decode cX3_markOf 33 = .ok (.if_icmp .ne 7, 3) := dk_160 0 7 (dk_at dksX3_markOf_1 10 rfl rfl)
theorem dX3_markOf_36 : decode cX3_markOf 36 = .ok (.iconst 2, 1) := dk_5 (dk_at dksX3_markOf_1 13 rfl rfl)
theorem dX3_markOf_37 : decode cX3_markOf 37 = .ok (.goto 14, 3) := dk_167 0 14 (dk_at dksX3_markOf_1 14 rfl rfl)
theorem dX3_markOf_40 : decode cX3_markOf 40 = .ok (.iload_n 0, 1) := dk_26 (dk_at dksX3_markOf_1 17 rfl rfl)
theorem dX3_markOf_41 : decode cX3_markOf 41 = .ok (.bipush 112, 2) := dk_16 112 (dk_at dksX3_markOf_1 18 rfl rfl)
theorem dX3_markOf_43 : decode cX3_markOf 43 = .ok (.if_icmp .ne 7, 3) := dk_160 0 7 (dk_at dksX3_markOf_1 20 rfl rfl)
theorem dX3_markOf_46 : decode cX3_markOf 46 = .ok (.iconst 3, 1) := dk_6 (dk_at dksX3_markOf_1 23 rfl rfl)
theorem dX3_markOf_47 : decode cX3_markOf 47 = .ok (.goto 4, 3) := dk_167 0 4 (dk_at dksX3_markOf_2 0 rfl rfl)
theorem dX3_markOf_50 : decode cX3_markOf 50 = .ok (.iconst (-1), 1) := dk_2 (dk_at dksX3_markOf_2 3 rfl rfl)
theorem dX3_markOf_51 : decode cX3_markOf 51 = .ok (.ireturn, 1) := dk_172 (dk_at dksX3_markOf_2 4 rfl rfl)
abbrev cX3_patch : ByteArray := prog_16_method_34_code
def yX3_patch : MethodName := ⟨RX3, "patch", "(II)Z"⟩
def dkwX3_patch_1 : List UInt8 := [181, 1, 31, 42, 28, 181, 0, 56, 4, 172]
abbrev dktX3_patch_1 : List UInt8 := dkwX3_patch_1 ++ []
def dkwX3_patch_0 : List UInt8 := [27, 155, 0, 18, 27, 6, 163, 0, 13, 28, 155, 0, 9, 28, 16, 100, 164, 0, 5, 3, 172, 42, 27]
abbrev dktX3_patch_0 : List UInt8 := dkwX3_patch_0 ++ dktX3_patch_1
theorem dksX3_patch_0 : cX3_patch.data.toList.drop 0 = dktX3_patch_0 := by decide +kernel
theorem dksX3_patch_1 : cX3_patch.data.toList.drop 23 = dktX3_patch_1 := dk_seg dksX3_patch_0 23 rfl rfl
theorem dX3_patch_0 : decode cX3_patch 0 = .ok (.iload_n 1, 1) := dk_27 (dk_at dksX3_patch_0 0 rfl rfl)
theorem dX3_patch_1 : decode cX3_patch 1 = .ok (.ifCond .lt 18, 3) := dk_155 0 18 (dk_at dksX3_patch_0 1 rfl rfl)
theorem dX3_patch_4 : decode cX3_patch 4 = .ok (.iload_n 1, 1) := dk_27 (dk_at dksX3_patch_0 4 rfl rfl)
theorem dX3_patch_5 : decode cX3_patch 5 = .ok (.iconst 3, 1) := dk_6 (dk_at dksX3_patch_0 5 rfl rfl)
theorem dX3_patch_6 : decode cX3_patch 6 = .ok (.if_icmp .gt 13, 3) := dk_163 0 13 (dk_at dksX3_patch_0 6 rfl rfl)
theorem dX3_patch_9 : decode cX3_patch 9 = .ok (.iload_n 2, 1) := dk_28 (dk_at dksX3_patch_0 9 rfl rfl)
theorem dX3_patch_10 : decode cX3_patch 10 = .ok (.ifCond .lt 9, 3) := dk_155 0 9 (dk_at dksX3_patch_0 10 rfl rfl)
theorem dX3_patch_13 : decode cX3_patch 13 = .ok (.iload_n 2, 1) := dk_28 (dk_at dksX3_patch_0 13 rfl rfl)
theorem dX3_patch_14 : decode cX3_patch 14 = .ok (.bipush 100, 2) := dk_16 100 (dk_at dksX3_patch_0 14 rfl rfl)
theorem dX3_patch_16 : decode cX3_patch 16 = .ok (.if_icmp .le 5, 3) := dk_164 0 5 (dk_at dksX3_patch_0 16 rfl rfl)
theorem dX3_patch_19 : decode cX3_patch 19 = .ok (.iconst 0, 1) := dk_3 (dk_at dksX3_patch_0 19 rfl rfl)
theorem dX3_patch_20 : decode cX3_patch 20 = .ok (.ireturn, 1) := dk_172 (dk_at dksX3_patch_0 20 rfl rfl)
theorem dX3_patch_21 : decode cX3_patch 21 = .ok (.aload_n 0, 1) := dk_42 (dk_at dksX3_patch_0 21 rfl rfl)
theorem dX3_patch_22 : decode cX3_patch 22 = .ok (.iload_n 1, 1) := dk_27 (dk_at dksX3_patch_0 22 rfl rfl)
theorem dX3_patch_23 : decode cX3_patch 23 = .ok (.putfield 287, 3) := dk_181 1 31 (dk_at dksX3_patch_1 0 rfl rfl)
theorem dX3_patch_26 : decode cX3_patch 26 = .ok (.aload_n 0, 1) := dk_42 (dk_at dksX3_patch_1 3 rfl rfl)
theorem dX3_patch_27 : decode cX3_patch 27 = .ok (.iload_n 2, 1) := dk_28 (dk_at dksX3_patch_1 4 rfl rfl)
theorem dX3_patch_28 : decode cX3_patch 28 = .ok (.putfield 56, 3) := dk_181 0 56 (dk_at dksX3_patch_1 5 rfl rfl)
theorem dX3_patch_31 : decode cX3_patch 31 = .ok (.iconst 1, 1) := dk_4 (dk_at dksX3_patch_1 8 rfl rfl)
theorem dX3_patch_32 : decode cX3_patch 32 = .ok (.ireturn, 1) := dk_172 (dk_at dksX3_patch_1 9 rfl rfl)
abbrev cX3_sheet : ByteArray := prog_16_method_37_code
def yX3_sheet : MethodName := ⟨RX3, "sheet", "(III)I"⟩
def dkwX3_sheet_2 : List UInt8 := [182, 1, 37, 153, 0, 7, 4, 167, 0, 4, 3, 172]
abbrev dktX3_sheet_2 : List UInt8 := dkwX3_sheet_2 ++ []
def dkwX3_sheet_1 : List UInt8 := [180, 0, 20, 28, 46, 100, 163, 0, 12, 29, 155, 0, 8, 29, 6, 164, 0, 5, 2, 172, 42, 27, 28, 29]
abbrev dktX3_sheet_1 : List UInt8 := dkwX3_sheet_1 ++ dktX3_sheet_2
def dkwX3_sheet_0 : List UInt8 := [28, 155, 0, 39, 28, 42, 180, 1, 22, 162, 0, 31, 27, 155, 0, 27, 27, 42, 180, 1, 28, 42]
abbrev dktX3_sheet_0 : List UInt8 := dkwX3_sheet_0 ++ dktX3_sheet_1
theorem dksX3_sheet_0 : cX3_sheet.data.toList.drop 0 = dktX3_sheet_0 := by decide +kernel
theorem dksX3_sheet_1 : cX3_sheet.data.toList.drop 22 = dktX3_sheet_1 := dk_seg dksX3_sheet_0 22 rfl rfl
theorem dksX3_sheet_2 : cX3_sheet.data.toList.drop 46 = dktX3_sheet_2 := dk_seg dksX3_sheet_1 24 rfl rfl
theorem dX3_sheet_0 : decode cX3_sheet 0 = .ok (.iload_n 2, 1) := dk_28 (dk_at dksX3_sheet_0 0 rfl rfl)
theorem dX3_sheet_1 : decode cX3_sheet 1 = .ok (.ifCond .lt 39, 3) := dk_155 0 39 (dk_at dksX3_sheet_0 1 rfl rfl)
theorem dX3_sheet_4 : decode cX3_sheet 4 = .ok (.iload_n 2, 1) := dk_28 (dk_at dksX3_sheet_0 4 rfl rfl)
theorem dX3_sheet_5 : decode cX3_sheet 5 = .ok (.aload_n 0, 1) := dk_42 (dk_at dksX3_sheet_0 5 rfl rfl)
theorem dX3_sheet_6 : decode cX3_sheet 6 = .ok (.getfield 278, 3) := dk_180 1 22 (dk_at dksX3_sheet_0 6 rfl rfl)
theorem dX3_sheet_9 : decode cX3_sheet 9 = .ok (.if_icmp .ge 31, 3) := dk_162 0 31 (dk_at dksX3_sheet_0 9 rfl rfl)
theorem dX3_sheet_12 : decode cX3_sheet 12 = .ok (.iload_n 1, 1) := dk_27 (dk_at dksX3_sheet_0 12 rfl rfl)
theorem dX3_sheet_13 : decode cX3_sheet 13 = .ok (.ifCond .lt 27, 3) := dk_155 0 27 (dk_at dksX3_sheet_0 13 rfl rfl)
theorem dX3_sheet_16 : decode cX3_sheet 16 = .ok (.iload_n 1, 1) := dk_27 (dk_at dksX3_sheet_0 16 rfl rfl)
theorem dX3_sheet_17 : decode cX3_sheet 17 = .ok (.aload_n 0, 1) := dk_42 (dk_at dksX3_sheet_0 17 rfl rfl)
theorem dX3_sheet_18 : decode cX3_sheet 18 = .ok (.getfield 284, 3) := dk_180 1 28 (dk_at dksX3_sheet_0 18 rfl rfl)
theorem dX3_sheet_21 : decode cX3_sheet 21 = .ok (.aload_n 0, 1) := dk_42 (dk_at dksX3_sheet_0 21 rfl rfl)
theorem dX3_sheet_22 : decode cX3_sheet 22 = .ok (.getfield 20, 3) := dk_180 0 20 (dk_at dksX3_sheet_1 0 rfl rfl)
theorem dX3_sheet_25 : decode cX3_sheet 25 = .ok (.iload_n 2, 1) := dk_28 (dk_at dksX3_sheet_1 3 rfl rfl)
theorem dX3_sheet_26 : decode cX3_sheet 26 = .ok (.iaload, 1) := dk_46 (dk_at dksX3_sheet_1 4 rfl rfl)
theorem dX3_sheet_27 : decode cX3_sheet 27 = .ok (.isub, 1) := dk_100 (dk_at dksX3_sheet_1 5 rfl rfl)
theorem dX3_sheet_28 : decode cX3_sheet 28 = .ok (.if_icmp .gt 12, 3) := dk_163 0 12 (dk_at dksX3_sheet_1 6 rfl rfl)
theorem dX3_sheet_31 : decode cX3_sheet 31 = .ok (.iload_n 3, 1) := dk_29 (dk_at dksX3_sheet_1 9 rfl rfl)
theorem dX3_sheet_32 : decode cX3_sheet 32 = .ok (.ifCond .lt 8, 3) := dk_155 0 8 (dk_at dksX3_sheet_1 10 rfl rfl)
theorem dX3_sheet_35 : decode cX3_sheet 35 = .ok (.iload_n 3, 1) := dk_29 (dk_at dksX3_sheet_1 13 rfl rfl)
theorem dX3_sheet_36 : decode cX3_sheet 36 = .ok (.iconst 3, 1) := dk_6 (dk_at dksX3_sheet_1 14 rfl rfl)
theorem dX3_sheet_37 : decode cX3_sheet 37 = .ok (.if_icmp .le 5, 3) := dk_164 0 5 (dk_at dksX3_sheet_1 15 rfl rfl)
theorem dX3_sheet_40 : decode cX3_sheet 40 = .ok (.iconst (-1), 1) := dk_2 (dk_at dksX3_sheet_1 18 rfl rfl)
theorem dX3_sheet_41 : decode cX3_sheet 41 = .ok (.ireturn, 1) := dk_172 (dk_at dksX3_sheet_1 19 rfl rfl)
theorem dX3_sheet_42 : decode cX3_sheet 42 = .ok (.aload_n 0, 1) := dk_42 (dk_at dksX3_sheet_1 20 rfl rfl)
theorem dX3_sheet_43 : decode cX3_sheet 43 = .ok (.iload_n 1, 1) := dk_27 (dk_at dksX3_sheet_1 21 rfl rfl)
theorem dX3_sheet_44 : decode cX3_sheet 44 = .ok (.iload_n 2, 1) := dk_28 (dk_at dksX3_sheet_1 22 rfl rfl)
theorem dX3_sheet_45 : decode cX3_sheet 45 = .ok (.iload_n 3, 1) := dk_29 (dk_at dksX3_sheet_1 23 rfl rfl)
theorem dX3_sheet_46 : decode cX3_sheet 46 = .ok (.invokevirtual 293, 3) := dk_182 1 37 (dk_at dksX3_sheet_2 0 rfl rfl)
theorem dX3_sheet_49 : decode cX3_sheet 49 = .ok (.ifCond .eq 7, 3) := dk_153 0 7 (dk_at dksX3_sheet_2 3 rfl rfl)
theorem dX3_sheet_52 : decode cX3_sheet 52 = .ok (.iconst 1, 1) := dk_4 (dk_at dksX3_sheet_2 6 rfl rfl)
theorem dX3_sheet_53 : decode cX3_sheet 53 = .ok (.goto 4, 3) := dk_167 0 4 (dk_at dksX3_sheet_2 7 rfl rfl)
theorem dX3_sheet_56 : decode cX3_sheet 56 = .ok (.iconst 0, 1) := dk_3 (dk_at dksX3_sheet_2 10 rfl rfl)
theorem dX3_sheet_57 : decode cX3_sheet 57 = .ok (.ireturn, 1) := dk_172 (dk_at dksX3_sheet_2 11 rfl rfl)
abbrev cX3_isSheet : ByteArray := prog_16_method_36_code
def yX3_isSheet : MethodName := ⟨RX3, "isSheet", "(III)Z"⟩
def dkwX3_isSheet_7 : List UInt8 := [182, 1, 34, 172]
abbrev dktX3_isSheet_7 : List UInt8 := dkwX3_isSheet_7 ++ []
def dkwX3_isSheet_6 : List UInt8 := [3, 172, 42, 180, 0, 59, 5, 92, 46, 29, 100, 79, 42, 180, 0, 59, 6, 92, 46, 29, 96, 79, 42, 28]
abbrev dktX3_isSheet_6 : List UInt8 := dkwX3_isSheet_6 ++ dktX3_isSheet_7
def dkwX3_isSheet_5 : List UInt8 := [132, 5, 1, 167, 255, 164, 29, 42, 180, 1, 31, 163, 0, 13, 29, 42, 180, 0, 59, 5, 46, 164, 0, 5]
abbrev dktX3_isSheet_5 : List UInt8 := dkwX3_isSheet_5 ++ dktX3_isSheet_6
def dkwX3_isSheet_4 : List UInt8 := [21, 4, 42, 180, 0, 59, 7, 46, 164, 0, 8, 21, 4, 167, 0, 9, 42, 180, 0, 59, 7, 46, 79]
abbrev dktX3_isSheet_4 : List UInt8 := dkwX3_isSheet_4 ++ dktX3_isSheet_5
def dkwX3_isSheet_3 : List UInt8 := [162, 0, 19, 42, 180, 0, 59, 42, 180, 0, 53, 21, 5, 46, 92, 46, 4, 96, 79, 42, 180, 0, 59, 7]
abbrev dktX3_isSheet_3 : List UInt8 := dkwX3_isSheet_3 ++ dktX3_isSheet_4
def dkwX3_isSheet_2 : List UInt8 := [46, 7, 160, 0, 10, 21, 4, 4, 96, 167, 0, 4, 3, 54, 4, 42, 180, 0, 53, 21, 5, 46, 7]
abbrev dktX3_isSheet_2 : List UInt8 := dkwX3_isSheet_2 ++ dktX3_isSheet_3
def dkwX3_isSheet_1 : List UInt8 := [54, 4, 27, 54, 5, 21, 5, 27, 42, 180, 0, 20, 28, 46, 96, 162, 0, 85, 42, 180, 0, 53, 21, 5]
abbrev dktX3_isSheet_1 : List UInt8 := dkwX3_isSheet_1 ++ dktX3_isSheet_2
def dkwX3_isSheet_0 : List UInt8 := [3, 54, 4, 21, 4, 8, 162, 0, 17, 42, 180, 0, 59, 21, 4, 3, 79, 132, 4, 1, 167, 255, 239, 3]
abbrev dktX3_isSheet_0 : List UInt8 := dkwX3_isSheet_0 ++ dktX3_isSheet_1
theorem dksX3_isSheet_0 : cX3_isSheet.data.toList.drop 0 = dktX3_isSheet_0 := by decide +kernel
theorem dksX3_isSheet_1 : cX3_isSheet.data.toList.drop 24 = dktX3_isSheet_1 := dk_seg dksX3_isSheet_0 24 rfl rfl
theorem dksX3_isSheet_2 : cX3_isSheet.data.toList.drop 48 = dktX3_isSheet_2 := dk_seg dksX3_isSheet_1 24 rfl rfl
theorem dksX3_isSheet_3 : cX3_isSheet.data.toList.drop 71 = dktX3_isSheet_3 := dk_seg dksX3_isSheet_2 23 rfl rfl
theorem dksX3_isSheet_4 : cX3_isSheet.data.toList.drop 95 = dktX3_isSheet_4 := dk_seg dksX3_isSheet_3 24 rfl rfl
theorem dksX3_isSheet_5 : cX3_isSheet.data.toList.drop 118 = dktX3_isSheet_5 := dk_seg dksX3_isSheet_4 23 rfl rfl
theorem dksX3_isSheet_6 : cX3_isSheet.data.toList.drop 142 = dktX3_isSheet_6 := dk_seg dksX3_isSheet_5 24 rfl rfl
theorem dksX3_isSheet_7 : cX3_isSheet.data.toList.drop 166 = dktX3_isSheet_7 := dk_seg dksX3_isSheet_6 24 rfl rfl
theorem dX3_isSheet_0 : decode cX3_isSheet 0 = .ok (.iconst 0, 1) := dk_3 (dk_at dksX3_isSheet_0 0 rfl rfl)
theorem dX3_isSheet_1 : decode cX3_isSheet 1 = .ok (.istore 4, 2) := dk_54 4 (dk_at dksX3_isSheet_0 1 rfl rfl)
theorem dX3_isSheet_3 : decode cX3_isSheet 3 = .ok (.iload 4, 2) := dk_21 4 (dk_at dksX3_isSheet_0 3 rfl rfl)
theorem dX3_isSheet_5 : decode cX3_isSheet 5 = .ok (.iconst 5, 1) := dk_8 (dk_at dksX3_isSheet_0 5 rfl rfl)
theorem dX3_isSheet_6 : decode cX3_isSheet 6 = .ok (.if_icmp .ge 17, 3) := dk_162 0 17 (dk_at dksX3_isSheet_0 6 rfl rfl)
theorem dX3_isSheet_9 : decode cX3_isSheet 9 = .ok (.aload_n 0, 1) := dk_42 (dk_at dksX3_isSheet_0 9 rfl rfl)
theorem dX3_isSheet_10 : decode cX3_isSheet 10 = .ok (.getfield 59, 3) := dk_180 0 59 (dk_at dksX3_isSheet_0 10 rfl rfl)
theorem dX3_isSheet_13 : decode cX3_isSheet 13 = .ok (.iload 4, 2) := dk_21 4 (dk_at dksX3_isSheet_0 13 rfl rfl)
theorem dX3_isSheet_15 : decode cX3_isSheet 15 = .ok (.iconst 0, 1) := dk_3 (dk_at dksX3_isSheet_0 15 rfl rfl)
theorem dX3_isSheet_16 : decode cX3_isSheet 16 = .ok (.iastore, 1) := dk_79 (dk_at dksX3_isSheet_0 16 rfl rfl)
theorem dX3_isSheet_17 : decode cX3_isSheet 17 = .ok (.iinc 4 1, 3) := dk_132 4 1 (dk_at dksX3_isSheet_0 17 rfl rfl)
theorem dX3_isSheet_20 : decode cX3_isSheet 20 = .ok (.goto (-17), 3) := dk_167 255 239 (dk_at dksX3_isSheet_0 20 rfl rfl)
theorem dX3_isSheet_23 : decode cX3_isSheet 23 = .ok (.iconst 0, 1) := dk_3 (dk_at dksX3_isSheet_0 23 rfl rfl)
theorem dX3_isSheet_24 : decode cX3_isSheet 24 = .ok (.istore 4, 2) := dk_54 4 (dk_at dksX3_isSheet_1 0 rfl rfl)
theorem dX3_isSheet_26 : decode cX3_isSheet 26 = .ok (.iload_n 1, 1) := dk_27 (dk_at dksX3_isSheet_1 2 rfl rfl)
theorem dX3_isSheet_27 : decode cX3_isSheet 27 = .ok (.istore 5, 2) := dk_54 5 (dk_at dksX3_isSheet_1 3 rfl rfl)
theorem dX3_isSheet_29 : decode cX3_isSheet 29 = .ok (.iload 5, 2) := dk_21 5 (dk_at dksX3_isSheet_1 5 rfl rfl)
theorem dX3_isSheet_31 : decode cX3_isSheet 31 = .ok (.iload_n 1, 1) := dk_27 (dk_at dksX3_isSheet_1 7 rfl rfl)
theorem dX3_isSheet_32 : decode cX3_isSheet 32 = .ok (.aload_n 0, 1) := dk_42 (dk_at dksX3_isSheet_1 8 rfl rfl)
theorem dX3_isSheet_33 : decode cX3_isSheet 33 = .ok (.getfield 20, 3) := dk_180 0 20 (dk_at dksX3_isSheet_1 9 rfl rfl)
theorem dX3_isSheet_36 : decode cX3_isSheet 36 = .ok (.iload_n 2, 1) := dk_28 (dk_at dksX3_isSheet_1 12 rfl rfl)
theorem dX3_isSheet_37 : decode cX3_isSheet 37 = .ok (.iaload, 1) := dk_46 (dk_at dksX3_isSheet_1 13 rfl rfl)
theorem dX3_isSheet_38 : decode cX3_isSheet 38 = .ok (.iadd, 1) := dk_96 (dk_at dksX3_isSheet_1 14 rfl rfl)
theorem dX3_isSheet_39 : decode cX3_isSheet 39 = .ok (.if_icmp .ge 85, 3) := dk_162 0 85 (dk_at dksX3_isSheet_1 15 rfl rfl)
theorem dX3_isSheet_42 : decode cX3_isSheet 42 = .ok (.aload_n 0, 1) := dk_42 (dk_at dksX3_isSheet_1 18 rfl rfl)
theorem dX3_isSheet_43 : decode cX3_isSheet 43 = .ok (.getfield 53, 3) := dk_180 0 53 (dk_at dksX3_isSheet_1 19 rfl rfl)
theorem dX3_isSheet_46 : decode cX3_isSheet 46 = .ok (.iload 5, 2) := dk_21 5 (dk_at dksX3_isSheet_1 22 rfl rfl)
theorem dX3_isSheet_48 : decode cX3_isSheet 48 = .ok (.iaload, 1) := dk_46 (dk_at dksX3_isSheet_2 0 rfl rfl)
theorem dX3_isSheet_49 : decode cX3_isSheet 49 = .ok (.iconst 4, 1) := dk_7 (dk_at dksX3_isSheet_2 1 rfl rfl)
theorem dX3_isSheet_50 : decode cX3_isSheet 50 = .ok (.if_icmp .ne 10, 3) := dk_160 0 10 (dk_at dksX3_isSheet_2 2 rfl rfl)
theorem dX3_isSheet_53 : decode cX3_isSheet 53 = .ok (.iload 4, 2) := dk_21 4 (dk_at dksX3_isSheet_2 5 rfl rfl)
theorem dX3_isSheet_55 : decode cX3_isSheet 55 = .ok (.iconst 1, 1) := dk_4 (dk_at dksX3_isSheet_2 7 rfl rfl)
theorem dX3_isSheet_56 : decode cX3_isSheet 56 = .ok (.iadd, 1) := dk_96 (dk_at dksX3_isSheet_2 8 rfl rfl)
theorem dX3_isSheet_57 : decode cX3_isSheet 57 = .ok (.goto 4, 3) := dk_167 0 4 (dk_at dksX3_isSheet_2 9 rfl rfl)
theorem dX3_isSheet_60 : decode cX3_isSheet 60 = .ok (.iconst 0, 1) := dk_3 (dk_at dksX3_isSheet_2 12 rfl rfl)
theorem dX3_isSheet_61 : decode cX3_isSheet 61 = .ok (.istore 4, 2) := dk_54 4 (dk_at dksX3_isSheet_2 13 rfl rfl)
theorem dX3_isSheet_63 : decode cX3_isSheet 63 = .ok (.aload_n 0, 1) := dk_42 (dk_at dksX3_isSheet_2 15 rfl rfl)
theorem dX3_isSheet_64 : decode cX3_isSheet 64 = .ok (.getfield 53, 3) := dk_180 0 53 (dk_at dksX3_isSheet_2 16 rfl rfl)
theorem dX3_isSheet_67 : decode cX3_isSheet 67 = .ok (.iload 5, 2) := dk_21 5 (dk_at dksX3_isSheet_2 19 rfl rfl)
theorem dX3_isSheet_69 : decode cX3_isSheet 69 = .ok (.iaload, 1) := dk_46 (dk_at dksX3_isSheet_2 21 rfl rfl)
theorem dX3_isSheet_70 : decode cX3_isSheet 70 = .ok (.iconst 4, 1) := dk_7 (dk_at dksX3_isSheet_2 22 rfl rfl)
theorem dX3_isSheet_71 : decode cX3_isSheet 71 = .ok (.if_icmp .ge 19, 3) := dk_162 0 19 (dk_at dksX3_isSheet_3 0 rfl rfl)
theorem dX3_isSheet_74 : decode cX3_isSheet 74 = .ok (.aload_n 0, 1) := dk_42 (dk_at dksX3_isSheet_3 3 rfl rfl)
theorem dX3_isSheet_75 : decode cX3_isSheet 75 = .ok (.getfield 59, 3) := dk_180 0 59 (dk_at dksX3_isSheet_3 4 rfl rfl)
theorem dX3_isSheet_78 : decode cX3_isSheet 78 = .ok (.aload_n 0, 1) := dk_42 (dk_at dksX3_isSheet_3 7 rfl rfl)
theorem dX3_isSheet_79 : decode cX3_isSheet 79 = .ok (.getfield 53, 3) := dk_180 0 53 (dk_at dksX3_isSheet_3 8 rfl rfl)
theorem dX3_isSheet_82 : decode cX3_isSheet 82 = .ok (.iload 5, 2) := dk_21 5 (dk_at dksX3_isSheet_3 11 rfl rfl)
theorem dX3_isSheet_84 : decode cX3_isSheet 84 = .ok (.iaload, 1) := dk_46 (dk_at dksX3_isSheet_3 13 rfl rfl)
theorem dX3_isSheet_85 : decode cX3_isSheet 85 = .ok (.dup2, 1) := dk_92 (dk_at dksX3_isSheet_3 14 rfl rfl)
theorem dX3_isSheet_86 : decode cX3_isSheet 86 = .ok (.iaload, 1) := dk_46 (dk_at dksX3_isSheet_3 15 rfl rfl)
theorem dX3_isSheet_87 : decode cX3_isSheet 87 = .ok (.iconst 1, 1) := dk_4 (dk_at dksX3_isSheet_3 16 rfl rfl)
theorem dX3_isSheet_88 : decode cX3_isSheet 88 = .ok (.iadd, 1) := dk_96 (dk_at dksX3_isSheet_3 17 rfl rfl)
theorem dX3_isSheet_89 : decode cX3_isSheet 89 = .ok (.iastore, 1) := dk_79 (dk_at dksX3_isSheet_3 18 rfl rfl)
theorem dX3_isSheet_90 : decode cX3_isSheet 90 = .ok (.aload_n 0, 1) := dk_42 (dk_at dksX3_isSheet_3 19 rfl rfl)
theorem dX3_isSheet_91 : decode cX3_isSheet 91 = .ok (.getfield 59, 3) := dk_180 0 59 (dk_at dksX3_isSheet_3 20 rfl rfl)
theorem dX3_isSheet_94 : decode cX3_isSheet 94 = .ok (.iconst 4, 1) := dk_7 (dk_at dksX3_isSheet_3 23 rfl rfl)
theorem dX3_isSheet_95 : decode cX3_isSheet 95 = .ok (.iload 4, 2) := dk_21 4 (dk_at dksX3_isSheet_4 0 rfl rfl)
theorem dX3_isSheet_97 : decode cX3_isSheet 97 = .ok (.aload_n 0, 1) := dk_42 (dk_at dksX3_isSheet_4 2 rfl rfl)
theorem dX3_isSheet_98 : decode cX3_isSheet 98 = .ok (.getfield 59, 3) := dk_180 0 59 (dk_at dksX3_isSheet_4 3 rfl rfl)
theorem dX3_isSheet_101 : decode cX3_isSheet 101 = .ok (.iconst 4, 1) := dk_7 (dk_at dksX3_isSheet_4 6 rfl rfl)
theorem dX3_isSheet_102 : decode cX3_isSheet 102 = .ok (.iaload, 1) := dk_46 (dk_at dksX3_isSheet_4 7 rfl rfl)
theorem dX3_isSheet_103 : decode cX3_isSheet 103 = .ok (.if_icmp .le 8, 3) := dk_164 0 8 (dk_at dksX3_isSheet_4 8 rfl rfl)
theorem dX3_isSheet_106 : decode cX3_isSheet 106 = .ok (.iload 4, 2) := dk_21 4 (dk_at dksX3_isSheet_4 11 rfl rfl)
theorem dX3_isSheet_108 : decode cX3_isSheet 108 = .ok (.goto 9, 3) := dk_167 0 9 (dk_at dksX3_isSheet_4 13 rfl rfl)
theorem dX3_isSheet_111 : decode cX3_isSheet 111 = .ok (.aload_n 0, 1) := dk_42 (dk_at dksX3_isSheet_4 16 rfl rfl)
theorem dX3_isSheet_112 : decode cX3_isSheet 112 = .ok (.getfield 59, 3) := dk_180 0 59 (dk_at dksX3_isSheet_4 17 rfl rfl)
theorem dX3_isSheet_115 : decode cX3_isSheet 115 = .ok (.iconst 4, 1) := dk_7 (dk_at dksX3_isSheet_4 20 rfl rfl)
theorem dX3_isSheet_116 : decode cX3_isSheet 116 = .ok (.iaload, 1) := dk_46 (dk_at dksX3_isSheet_4 21 rfl rfl)
theorem dX3_isSheet_117 : decode cX3_isSheet 117 = .ok (.iastore, 1) := dk_79 (dk_at dksX3_isSheet_4 22 rfl rfl)
theorem dX3_isSheet_118 : decode cX3_isSheet 118 = .ok (.iinc 5 1, 3) := dk_132 5 1 (dk_at dksX3_isSheet_5 0 rfl rfl)
theorem dX3_isSheet_121 : decode cX3_isSheet 121 = .ok (.goto (-92), 3) := dk_167 255 164 (dk_at dksX3_isSheet_5 3 rfl rfl)
theorem dX3_isSheet_124 : decode cX3_isSheet 124 = .ok (.iload_n 3, 1) := dk_29 (dk_at dksX3_isSheet_5 6 rfl rfl)
theorem dX3_isSheet_125 : decode cX3_isSheet 125 = .ok (.aload_n 0, 1) := dk_42 (dk_at dksX3_isSheet_5 7 rfl rfl)
theorem dX3_isSheet_126 : decode cX3_isSheet 126 = .ok (.getfield 287, 3) := dk_180 1 31 (dk_at dksX3_isSheet_5 8 rfl rfl)
theorem dX3_isSheet_129 : decode cX3_isSheet 129 = .ok (.if_icmp .gt 13, 3) := dk_163 0 13 (dk_at dksX3_isSheet_5 11 rfl rfl)
theorem dX3_isSheet_132 : decode cX3_isSheet 132 = .ok (.iload_n 3, 1) := dk_29 (dk_at dksX3_isSheet_5 14 rfl rfl)
theorem dX3_isSheet_133 : decode cX3_isSheet 133 = .ok (.aload_n 0, 1) := dk_42 (dk_at dksX3_isSheet_5 15 rfl rfl)
theorem dX3_isSheet_134 : decode cX3_isSheet 134 = .ok (.getfield 59, 3) := dk_180 0 59 (dk_at dksX3_isSheet_5 16 rfl rfl)
theorem dX3_isSheet_137 : decode cX3_isSheet 137 = .ok (.iconst 2, 1) := dk_5 (dk_at dksX3_isSheet_5 19 rfl rfl)
theorem dX3_isSheet_138 : decode cX3_isSheet 138 = .ok (.iaload, 1) := dk_46 (dk_at dksX3_isSheet_5 20 rfl rfl)
theorem dX3_isSheet_139 : decode cX3_isSheet 139 = .ok (.if_icmp .le 5, 3) := dk_164 0 5 (dk_at dksX3_isSheet_5 21 rfl rfl)
theorem dX3_isSheet_142 : decode cX3_isSheet 142 = .ok (.iconst 0, 1) := dk_3 (dk_at dksX3_isSheet_6 0 rfl rfl)
theorem dX3_isSheet_143 : decode cX3_isSheet 143 = .ok (.ireturn, 1) := dk_172 (dk_at dksX3_isSheet_6 1 rfl rfl)
theorem dX3_isSheet_144 : decode cX3_isSheet 144 = .ok (.aload_n 0, 1) := dk_42 (dk_at dksX3_isSheet_6 2 rfl rfl)
theorem dX3_isSheet_145 : decode cX3_isSheet 145 = .ok (.getfield 59, 3) := dk_180 0 59 (dk_at dksX3_isSheet_6 3 rfl rfl)
theorem dX3_isSheet_148 : decode cX3_isSheet 148 = .ok (.iconst 2, 1) := dk_5 (dk_at dksX3_isSheet_6 6 rfl rfl)
theorem dX3_isSheet_149 : decode cX3_isSheet 149 = .ok (.dup2, 1) := dk_92 (dk_at dksX3_isSheet_6 7 rfl rfl)
theorem dX3_isSheet_150 : decode cX3_isSheet 150 = .ok (.iaload, 1) := dk_46 (dk_at dksX3_isSheet_6 8 rfl rfl)
theorem dX3_isSheet_151 : decode cX3_isSheet 151 = .ok (.iload_n 3, 1) := dk_29 (dk_at dksX3_isSheet_6 9 rfl rfl)
theorem dX3_isSheet_152 : decode cX3_isSheet 152 = .ok (.isub, 1) := dk_100 (dk_at dksX3_isSheet_6 10 rfl rfl)
theorem dX3_isSheet_153 : decode cX3_isSheet 153 = .ok (.iastore, 1) := dk_79 (dk_at dksX3_isSheet_6 11 rfl rfl)
theorem dX3_isSheet_154 : decode cX3_isSheet 154 = .ok (.aload_n 0, 1) := dk_42 (dk_at dksX3_isSheet_6 12 rfl rfl)
theorem dX3_isSheet_155 : decode cX3_isSheet 155 = .ok (.getfield 59, 3) := dk_180 0 59 (dk_at dksX3_isSheet_6 13 rfl rfl)
theorem dX3_isSheet_158 : decode cX3_isSheet 158 = .ok (.iconst 3, 1) := dk_6 (dk_at dksX3_isSheet_6 16 rfl rfl)
theorem dX3_isSheet_159 : decode cX3_isSheet 159 = .ok (.dup2, 1) := dk_92 (dk_at dksX3_isSheet_6 17 rfl rfl)
theorem dX3_isSheet_160 : decode cX3_isSheet 160 = .ok (.iaload, 1) := dk_46 (dk_at dksX3_isSheet_6 18 rfl rfl)
theorem dX3_isSheet_161 : decode cX3_isSheet 161 = .ok (.iload_n 3, 1) := dk_29 (dk_at dksX3_isSheet_6 19 rfl rfl)
theorem dX3_isSheet_162 : decode cX3_isSheet 162 = .ok (.iadd, 1) := dk_96 (dk_at dksX3_isSheet_6 20 rfl rfl)
theorem dX3_isSheet_163 : decode cX3_isSheet 163 = .ok (.iastore, 1) := dk_79 (dk_at dksX3_isSheet_6 21 rfl rfl)
theorem dX3_isSheet_164 : decode cX3_isSheet 164 = .ok (.aload_n 0, 1) := dk_42 (dk_at dksX3_isSheet_6 22 rfl rfl)
theorem dX3_isSheet_165 : decode cX3_isSheet 165 = .ok (.iload_n 2, 1) := dk_28 (dk_at dksX3_isSheet_6 23 rfl rfl)
theorem dX3_isSheet_166 : decode cX3_isSheet 166 = .ok (.invokevirtual 290, 3) := dk_182 1 34 (dk_at dksX3_isSheet_7 0 rfl rfl)
theorem dX3_isSheet_169 : decode cX3_isSheet 169 = .ok (.ireturn, 1) := dk_172 (dk_at dksX3_isSheet_7 3 rfl rfl)
abbrev cX3_holds : ByteArray := prog_16_method_35_code
def yX3_holds : MethodName := ⟨RX3, "holds", "(I)Z"⟩
def dkwX3_holds_14 : List UInt8 := [4, 160, 0, 7, 4, 167, 0, 4, 3, 172]
abbrev dktX3_holds_14 : List UInt8 := dkwX3_holds_14 ++ []
def dkwX3_holds_13 : List UInt8 := [4, 100, 21, 5, 21, 6, 100, 79, 132, 3, 1, 167, 254, 211, 28, 153, 0, 13, 42, 180, 0, 62, 3, 46]
abbrev dktX3_holds_13 : List UInt8 := dkwX3_holds_13 ++ dktX3_holds_14
def dkwX3_holds_12 : List UInt8 := [167, 0, 32, 42, 180, 0, 62, 28, 4, 100, 21, 5, 21, 6, 96, 79, 167, 0, 16, 42, 180, 0, 62, 28]
abbrev dktX3_holds_12 : List UInt8 := dkwX3_holds_12 ++ dktX3_holds_13
def dkwX3_holds_11 : List UInt8 := [167, 0, 55, 42, 180, 0, 62, 28, 4, 100, 21, 5, 21, 6, 164, 0, 7, 4, 167, 0, 4, 3, 79]
abbrev dktX3_holds_11 : List UInt8 := dkwX3_holds_11 ++ dktX3_holds_12
def dkwX3_holds_10 : List UInt8 := [167, 0, 78, 42, 180, 0, 62, 28, 4, 100, 21, 5, 21, 6, 162, 0, 7, 4, 167, 0, 4, 3, 79]
abbrev dktX3_holds_10 : List UInt8 := dkwX3_holds_10 ++ dktX3_holds_11
def dkwX3_holds_9 : List UInt8 := [167, 0, 101, 42, 180, 0, 62, 28, 4, 100, 21, 5, 21, 6, 160, 0, 7, 4, 167, 0, 4, 3, 79]
abbrev dktX3_holds_9 : List UInt8 := dkwX3_holds_9 ++ dktX3_holds_10
def dkwX3_holds_8 : List UInt8 := [42, 180, 0, 62, 28, 4, 100, 21, 5, 21, 6, 96, 4, 164, 0, 7, 4, 167, 0, 4, 3, 79]
abbrev dktX3_holds_8 : List UInt8 := dkwX3_holds_8 ++ dktX3_holds_9
def dkwX3_holds_7 : List UInt8 := [42, 180, 0, 62, 28, 4, 100, 21, 5, 21, 6, 96, 158, 0, 7, 4, 167, 0, 4, 3, 79, 167, 0, 126]
abbrev dktX3_holds_7 : List UInt8 := dkwX3_holds_7 ++ dktX3_holds_8
def dkwX3_holds_6 : List UInt8 := [170, 0, 0, 0, 171, 0, 0, 0, 21, 0, 0, 0, 26, 0, 0, 0, 37, 0, 0, 0, 61, 0, 0, 0, 86, 0, 0, 0, 109, 0, 0, 0, 132, 0, 0, 0, 155]
abbrev dktX3_holds_6 : List UInt8 := dkwX3_holds_6 ++ dktX3_holds_7
def dkwX3_holds_5 : List UInt8 := [28, 46, 54, 6, 21, 4]
abbrev dktX3_holds_5 : List UInt8 := dkwX3_holds_5 ++ dktX3_holds_6
def dkwX3_holds_4 : List UInt8 := [100, 46, 100, 79, 167, 0, 210, 132, 2, 255, 42, 180, 0, 62, 28, 4, 100, 46, 54, 5, 42, 180, 0, 62]
abbrev dktX3_holds_4 : List UInt8 := dkwX3_holds_4 ++ dktX3_holds_5
def dkwX3_holds_3 : List UInt8 := [167, 0, 238, 21, 4, 16, 20, 160, 0, 24, 42, 180, 0, 62, 28, 4, 100, 4, 42, 180, 0, 62, 28, 4]
abbrev dktX3_holds_3 : List UInt8 := dkwX3_holds_3 ++ dktX3_holds_4
def dkwX3_holds_2 : List UInt8 := [42, 180, 0, 29, 29, 46, 167, 0, 13, 42, 180, 0, 59, 21, 4, 16, 10, 100, 46, 79, 132, 2, 1]
abbrev dktX3_holds_2 : List UInt8 := dkwX3_holds_2 ++ dktX3_holds_3
def dkwX3_holds_1 : List UInt8 := [180, 0, 26, 29, 46, 54, 4, 21, 4, 16, 20, 162, 0, 39, 42, 180, 0, 62, 28, 21, 4, 154, 0, 12]
abbrev dktX3_holds_1 : List UInt8 := dkwX3_holds_1 ++ dktX3_holds_2
def dkwX3_holds_0 : List UInt8 := [3, 61, 42, 180, 0, 32, 27, 46, 62, 29, 42, 180, 0, 32, 27, 4, 96, 46, 162, 1, 39, 42]
abbrev dktX3_holds_0 : List UInt8 := dkwX3_holds_0 ++ dktX3_holds_1
theorem dksX3_holds_0 : cX3_holds.data.toList.drop 0 = dktX3_holds_0 := by decide +kernel
theorem dksX3_holds_1 : cX3_holds.data.toList.drop 22 = dktX3_holds_1 := dk_seg dksX3_holds_0 22 rfl rfl
theorem dksX3_holds_2 : cX3_holds.data.toList.drop 46 = dktX3_holds_2 := dk_seg dksX3_holds_1 24 rfl rfl
theorem dksX3_holds_3 : cX3_holds.data.toList.drop 69 = dktX3_holds_3 := dk_seg dksX3_holds_2 23 rfl rfl
theorem dksX3_holds_4 : cX3_holds.data.toList.drop 93 = dktX3_holds_4 := dk_seg dksX3_holds_3 24 rfl rfl
theorem dksX3_holds_5 : cX3_holds.data.toList.drop 117 = dktX3_holds_5 := dk_seg dksX3_holds_4 24 rfl rfl
theorem dksX3_holds_6 : cX3_holds.data.toList.drop 123 = dktX3_holds_6 := dk_seg dksX3_holds_5 6 rfl rfl
theorem dksX3_holds_7 : cX3_holds.data.toList.drop 160 = dktX3_holds_7 := dk_seg dksX3_holds_6 37 rfl rfl
theorem dksX3_holds_8 : cX3_holds.data.toList.drop 184 = dktX3_holds_8 := dk_seg dksX3_holds_7 24 rfl rfl
theorem dksX3_holds_9 : cX3_holds.data.toList.drop 206 = dktX3_holds_9 := dk_seg dksX3_holds_8 22 rfl rfl
theorem dksX3_holds_10 : cX3_holds.data.toList.drop 229 = dktX3_holds_10 := dk_seg dksX3_holds_9 23 rfl rfl
theorem dksX3_holds_11 : cX3_holds.data.toList.drop 252 = dktX3_holds_11 := dk_seg dksX3_holds_10 23 rfl rfl
theorem dksX3_holds_12 : cX3_holds.data.toList.drop 275 = dktX3_holds_12 := dk_seg dksX3_holds_11 23 rfl rfl
theorem dksX3_holds_13 : cX3_holds.data.toList.drop 299 = dktX3_holds_13 := dk_seg dksX3_holds_12 24 rfl rfl
theorem dksX3_holds_14 : cX3_holds.data.toList.drop 323 = dktX3_holds_14 := dk_seg dksX3_holds_13 24 rfl rfl
theorem dX3_holds_0 : decode cX3_holds 0 = .ok (.iconst 0, 1) := dk_3 (dk_at dksX3_holds_0 0 rfl rfl)
theorem dX3_holds_1 : decode cX3_holds 1 = .ok (.istore_n 2, 1) := dk_61 (dk_at dksX3_holds_0 1 rfl rfl)
theorem dX3_holds_2 : decode cX3_holds 2 = .ok (.aload_n 0, 1) := dk_42 (dk_at dksX3_holds_0 2 rfl rfl)
theorem dX3_holds_3 : decode cX3_holds 3 = .ok (.getfield 32, 3) := dk_180 0 32 (dk_at dksX3_holds_0 3 rfl rfl)
theorem dX3_holds_6 : decode cX3_holds 6 = .ok (.iload_n 1, 1) := dk_27 (dk_at dksX3_holds_0 6 rfl rfl)
theorem dX3_holds_7 : decode cX3_holds 7 = .ok (.iaload, 1) := dk_46 (dk_at dksX3_holds_0 7 rfl rfl)
theorem dX3_holds_8 : decode cX3_holds 8 = .ok (.istore_n 3, 1) := dk_62 (dk_at dksX3_holds_0 8 rfl rfl)
theorem dX3_holds_9 : decode cX3_holds 9 = .ok (.iload_n 3, 1) := dk_29 (dk_at dksX3_holds_0 9 rfl rfl)
theorem dX3_holds_10 : decode cX3_holds 10 = .ok (.aload_n 0, 1) := dk_42 (dk_at dksX3_holds_0 10 rfl rfl)
theorem dX3_holds_11 : decode cX3_holds 11 = .ok (.getfield 32, 3) := dk_180 0 32 (dk_at dksX3_holds_0 11 rfl rfl)
theorem dX3_holds_14 : decode cX3_holds 14 = .ok (.iload_n 1, 1) := dk_27 (dk_at dksX3_holds_0 14 rfl rfl)
theorem dX3_holds_15 : decode cX3_holds 15 = .ok (.iconst 1, 1) := dk_4 (dk_at dksX3_holds_0 15 rfl rfl)
theorem dX3_holds_16 : decode cX3_holds 16 = .ok (.iadd, 1) := dk_96 (dk_at dksX3_holds_0 16 rfl rfl)
theorem dX3_holds_17 : decode cX3_holds 17 = .ok (.iaload, 1) := dk_46 (dk_at dksX3_holds_0 17 rfl rfl)
theorem dX3_holds_18 : decode cX3_holds 18 = .ok (.if_icmp .ge 295, 3) := dk_162 1 39 (dk_at dksX3_holds_0 18 rfl rfl)
theorem dX3_holds_21 : decode cX3_holds 21 = .ok (.aload_n 0, 1) := dk_42 (dk_at dksX3_holds_0 21 rfl rfl)
theorem dX3_holds_22 : decode cX3_holds 22 = .ok (.getfield 26, 3) := dk_180 0 26 (dk_at dksX3_holds_1 0 rfl rfl)
theorem dX3_holds_25 : decode cX3_holds 25 = .ok (.iload_n 3, 1) := dk_29 (dk_at dksX3_holds_1 3 rfl rfl)
theorem dX3_holds_26 : decode cX3_holds 26 = .ok (.iaload, 1) := dk_46 (dk_at dksX3_holds_1 4 rfl rfl)
theorem dX3_holds_27 : decode cX3_holds 27 = .ok (.istore 4, 2) := dk_54 4 (dk_at dksX3_holds_1 5 rfl rfl)
theorem dX3_holds_29 : decode cX3_holds 29 = .ok (.iload 4, 2) := dk_21 4 (dk_at dksX3_holds_1 7 rfl rfl)
theorem dX3_holds_31 : decode cX3_holds 31 = .ok (.bipush 20, 2) := dk_16 20 (dk_at dksX3_holds_1 9 rfl rfl)
theorem dX3_holds_33 : decode cX3_holds 33 = .ok (.if_icmp .ge 39, 3) := dk_162 0 39 (dk_at dksX3_holds_1 11 rfl rfl)
theorem dX3_holds_36 : decode cX3_holds 36 = .ok (.aload_n 0, 1) := dk_42 (dk_at dksX3_holds_1 14 rfl rfl)
theorem dX3_holds_37 : decode cX3_holds 37 = .ok (.getfield 62, 3) := dk_180 0 62 (dk_at dksX3_holds_1 15 rfl rfl)
theorem dX3_holds_40 : decode cX3_holds 40 = .ok (.iload_n 2, 1) := dk_28 (dk_at dksX3_holds_1 18 rfl rfl)
theorem dX3_holds_41 : decode cX3_holds 41 = .ok (.iload 4, 2) := dk_21 4 (dk_at dksX3_holds_1 19 rfl rfl)
theorem dX3_holds_43 : decode cX3_holds 43 = .ok (.ifCond .ne 12, 3) := dk_154 0 12 (dk_at dksX3_holds_1 21 rfl rfl)
theorem dX3_holds_46 : decode cX3_holds 46 = .ok (.aload_n 0, 1) := dk_42 (dk_at dksX3_holds_2 0 rfl rfl)
theorem dX3_holds_47 : decode cX3_holds 47 = .ok (.getfield 29, 3) := dk_180 0 29 (dk_at dksX3_holds_2 1 rfl rfl)
theorem dX3_holds_50 : decode cX3_holds 50 = .ok (.iload_n 3, 1) := dk_29 (dk_at dksX3_holds_2 4 rfl rfl)
theorem dX3_holds_51 : decode cX3_holds 51 = .ok (.iaload, 1) := dk_46 (dk_at dksX3_holds_2 5 rfl rfl)
theorem dX3_holds_52 : decode cX3_holds 52 = .ok (.goto 13, 3) := dk_167 0 13 (dk_at dksX3_holds_2 6 rfl rfl)
theorem dX3_holds_55 : decode cX3_holds 55 = .ok (.aload_n 0, 1) := dk_42 (dk_at dksX3_holds_2 9 rfl rfl)
theorem dX3_holds_56 : decode cX3_holds 56 = .ok (.getfield 59, 3) := dk_180 0 59 (dk_at dksX3_holds_2 10 rfl rfl)
theorem dX3_holds_59 : decode cX3_holds 59 = .ok (.iload 4, 2) := dk_21 4 (dk_at dksX3_holds_2 13 rfl rfl)
theorem dX3_holds_61 : decode cX3_holds 61 = .ok (.bipush 10, 2) := dk_16 10 (dk_at dksX3_holds_2 15 rfl rfl)
theorem dX3_holds_63 : decode cX3_holds 63 = .ok (.isub, 1) := dk_100 (dk_at dksX3_holds_2 17 rfl rfl)
theorem dX3_holds_64 : decode cX3_holds 64 = .ok (.iaload, 1) := dk_46 (dk_at dksX3_holds_2 18 rfl rfl)
theorem dX3_holds_65 : decode cX3_holds 65 = .ok (.iastore, 1) := dk_79 (dk_at dksX3_holds_2 19 rfl rfl)
theorem dX3_holds_66 : decode cX3_holds 66 = .ok (.iinc 2 1, 3) := dk_132 2 1 (dk_at dksX3_holds_2 20 rfl rfl)
theorem dX3_holds_69 : decode cX3_holds 69 = .ok (.goto 238, 3) := dk_167 0 238 (dk_at dksX3_holds_3 0 rfl rfl)
theorem dX3_holds_72 : decode cX3_holds 72 = .ok (.iload 4, 2) := dk_21 4 (dk_at dksX3_holds_3 3 rfl rfl)
theorem dX3_holds_74 : decode cX3_holds 74 = .ok (.bipush 20, 2) := dk_16 20 (dk_at dksX3_holds_3 5 rfl rfl)
theorem dX3_holds_76 : decode cX3_holds 76 = .ok (.if_icmp .ne 24, 3) := dk_160 0 24 (dk_at dksX3_holds_3 7 rfl rfl)
theorem dX3_holds_79 : decode cX3_holds 79 = .ok (.aload_n 0, 1) := dk_42 (dk_at dksX3_holds_3 10 rfl rfl)
theorem dX3_holds_80 : decode cX3_holds 80 = .ok (.getfield 62, 3) := dk_180 0 62 (dk_at dksX3_holds_3 11 rfl rfl)
theorem dX3_holds_83 : decode cX3_holds 83 = .ok (.iload_n 2, 1) := dk_28 (dk_at dksX3_holds_3 14 rfl rfl)
theorem dX3_holds_84 : decode cX3_holds 84 = .ok (.iconst 1, 1) := dk_4 (dk_at dksX3_holds_3 15 rfl rfl)
theorem dX3_holds_85 : decode cX3_holds 85 = .ok (.isub, 1) := dk_100 (dk_at dksX3_holds_3 16 rfl rfl)
theorem dX3_holds_86 : decode cX3_holds 86 = .ok (.iconst 1, 1) := dk_4 (dk_at dksX3_holds_3 17 rfl rfl)
theorem dX3_holds_87 : decode cX3_holds 87 = .ok (.aload_n 0, 1) := dk_42 (dk_at dksX3_holds_3 18 rfl rfl)
theorem dX3_holds_88 : decode cX3_holds 88 = .ok (.getfield 62, 3) := dk_180 0 62 (dk_at dksX3_holds_3 19 rfl rfl)
theorem dX3_holds_91 : decode cX3_holds 91 = .ok (.iload_n 2, 1) := dk_28 (dk_at dksX3_holds_3 22 rfl rfl)
theorem dX3_holds_92 : decode cX3_holds 92 = .ok (.iconst 1, 1) := dk_4 (dk_at dksX3_holds_3 23 rfl rfl)
theorem dX3_holds_93 : decode cX3_holds 93 = .ok (.isub, 1) := dk_100 (dk_at dksX3_holds_4 0 rfl rfl)
theorem dX3_holds_94 : decode cX3_holds 94 = .ok (.iaload, 1) := dk_46 (dk_at dksX3_holds_4 1 rfl rfl)
theorem dX3_holds_95 : decode cX3_holds 95 = .ok (.isub, 1) := dk_100 (dk_at dksX3_holds_4 2 rfl rfl)
theorem dX3_holds_96 : decode cX3_holds 96 = .ok (.iastore, 1) := dk_79 (dk_at dksX3_holds_4 3 rfl rfl)
theorem dX3_holds_97 : decode cX3_holds 97 = .ok (.goto 210, 3) := dk_167 0 210 (dk_at dksX3_holds_4 4 rfl rfl)
theorem dX3_holds_100 : decode cX3_holds 100 = .ok (.iinc 2 (-1), 3) := dk_132 2 255 (dk_at dksX3_holds_4 7 rfl rfl)
theorem dX3_holds_103 : decode cX3_holds 103 = .ok (.aload_n 0, 1) := dk_42 (dk_at dksX3_holds_4 10 rfl rfl)
theorem dX3_holds_104 : decode cX3_holds 104 = .ok (.getfield 62, 3) := dk_180 0 62 (dk_at dksX3_holds_4 11 rfl rfl)
theorem dX3_holds_107 : decode cX3_holds 107 = .ok (.iload_n 2, 1) := dk_28 (dk_at dksX3_holds_4 14 rfl rfl)
theorem dX3_holds_108 : decode cX3_holds 108 = .ok (.iconst 1, 1) := dk_4 (dk_at dksX3_holds_4 15 rfl rfl)
theorem dX3_holds_109 : decode cX3_holds 109 = .ok (.isub, 1) := dk_100 (dk_at dksX3_holds_4 16 rfl rfl)
theorem dX3_holds_110 : decode cX3_holds 110 = .ok (.iaload, 1) := dk_46 (dk_at dksX3_holds_4 17 rfl rfl)
theorem dX3_holds_111 : decode cX3_holds 111 = .ok (.istore 5, 2) := dk_54 5 (dk_at dksX3_holds_4 18 rfl rfl)
theorem dX3_holds_113 : decode cX3_holds 113 = .ok (.aload_n 0, 1) := dk_42 (dk_at dksX3_holds_4 20 rfl rfl)
theorem dX3_holds_114 : decode cX3_holds 114 = .ok (.getfield 62, 3) := dk_180 0 62 (dk_at dksX3_holds_4 21 rfl rfl)
theorem dX3_holds_117 : decode cX3_holds 117 = .ok (.iload_n 2, 1) := dk_28 (dk_at dksX3_holds_5 0 rfl rfl)
theorem dX3_holds_118 : decode cX3_holds 118 = .ok (.iaload, 1) := dk_46 (dk_at dksX3_holds_5 1 rfl rfl)
theorem dX3_holds_119 : decode cX3_holds 119 = .ok (.istore 6, 2) := dk_54 6 (dk_at dksX3_holds_5 2 rfl rfl)
theorem dX3_holds_121 : decode cX3_holds 121 = .ok (.iload 4, 2) := dk_21 4 (dk_at dksX3_holds_5 4 rfl rfl)
theorem dX3_holds_123 : decode cX3_holds 123 = .ok (.tableswitch 171 21 26 #[37, 61, 86, 109, 132, 155], 37) := by decide +kernel
theorem dX3_holds_160 : decode cX3_holds 160 = .ok (.aload_n 0, 1) := dk_42 (dk_at dksX3_holds_7 0 rfl rfl)
theorem dX3_holds_161 : decode cX3_holds 161 = .ok (.getfield 62, 3) := dk_180 0 62 (dk_at dksX3_holds_7 1 rfl rfl)
theorem dX3_holds_164 : decode cX3_holds 164 = .ok (.iload_n 2, 1) := dk_28 (dk_at dksX3_holds_7 4 rfl rfl)
theorem dX3_holds_165 : decode cX3_holds 165 = .ok (.iconst 1, 1) := dk_4 (dk_at dksX3_holds_7 5 rfl rfl)
theorem dX3_holds_166 : decode cX3_holds 166 = .ok (.isub, 1) := dk_100 (dk_at dksX3_holds_7 6 rfl rfl)
theorem dX3_holds_167 : decode cX3_holds 167 = .ok (.iload 5, 2) := dk_21 5 (dk_at dksX3_holds_7 7 rfl rfl)
theorem dX3_holds_169 : decode cX3_holds 169 = .ok (.iload 6, 2) := dk_21 6 (dk_at dksX3_holds_7 9 rfl rfl)
theorem dX3_holds_171 : decode cX3_holds 171 = .ok (.iadd, 1) := dk_96 (dk_at dksX3_holds_7 11 rfl rfl)
theorem dX3_holds_172 : decode cX3_holds 172 = .ok (.ifCond .le 7, 3) := dk_158 0 7 (dk_at dksX3_holds_7 12 rfl rfl)
theorem dX3_holds_175 : decode cX3_holds 175 = .ok (.iconst 1, 1) := dk_4 (dk_at dksX3_holds_7 15 rfl rfl)
theorem dX3_holds_176 : decode cX3_holds 176 = .ok (.goto 4, 3) := dk_167 0 4 (dk_at dksX3_holds_7 16 rfl rfl)
theorem dX3_holds_179 : decode cX3_holds 179 = .ok (.iconst 0, 1) := dk_3 (dk_at dksX3_holds_7 19 rfl rfl)
theorem dX3_holds_180 : decode cX3_holds 180 = .ok (.iastore, 1) := dk_79 (dk_at dksX3_holds_7 20 rfl rfl)
theorem dX3_holds_181 : decode cX3_holds 181 = .ok (.goto 126, 3) := dk_167 0 126 (dk_at dksX3_holds_7 21 rfl rfl)
theorem dX3_holds_184 : decode cX3_holds 184 = .ok (.aload_n 0, 1) := dk_42 (dk_at dksX3_holds_8 0 rfl rfl)
theorem dX3_holds_185 : decode cX3_holds 185 = .ok (.getfield 62, 3) := dk_180 0 62 (dk_at dksX3_holds_8 1 rfl rfl)
theorem dX3_holds_188 : decode cX3_holds 188 = .ok (.iload_n 2, 1) := dk_28 (dk_at dksX3_holds_8 4 rfl rfl)
theorem dX3_holds_189 : decode cX3_holds 189 = .ok (.iconst 1, 1) := dk_4 (dk_at dksX3_holds_8 5 rfl rfl)
theorem dX3_holds_190 : decode cX3_holds 190 = .ok (.isub, 1) := dk_100 (dk_at dksX3_holds_8 6 rfl rfl)
theorem dX3_holds_191 : decode cX3_holds 191 = .ok (.iload 5, 2) := dk_21 5 (dk_at dksX3_holds_8 7 rfl rfl)
theorem dX3_holds_193 : decode cX3_holds 193 = .ok (.iload 6, 2) := dk_21 6 (dk_at dksX3_holds_8 9 rfl rfl)
theorem dX3_holds_195 : decode cX3_holds 195 = .ok (.iadd, 1) := dk_96 (dk_at dksX3_holds_8 11 rfl rfl)
theorem dX3_holds_196 : decode cX3_holds 196 = .ok (.iconst 1, 1) := dk_4 (dk_at dksX3_holds_8 12 rfl rfl)
theorem dX3_holds_197 : decode cX3_holds 197 = .ok (.if_icmp .le 7, 3) := dk_164 0 7 (dk_at dksX3_holds_8 13 rfl rfl)
theorem dX3_holds_200 : decode cX3_holds 200 = .ok (.iconst 1, 1) := dk_4 (dk_at dksX3_holds_8 16 rfl rfl)
theorem dX3_holds_201 : decode cX3_holds 201 = .ok (.goto 4, 3) := dk_167 0 4 (dk_at dksX3_holds_8 17 rfl rfl)
theorem dX3_holds_204 : decode cX3_holds 204 = .ok (.iconst 0, 1) := dk_3 (dk_at dksX3_holds_8 20 rfl rfl)
theorem dX3_holds_205 : decode cX3_holds 205 = .ok (.iastore, 1) := dk_79 (dk_at dksX3_holds_8 21 rfl rfl)
theorem dX3_holds_206 : decode cX3_holds 206 = .ok (.goto 101, 3) := dk_167 0 101 (dk_at dksX3_holds_9 0 rfl rfl)
theorem dX3_holds_209 : decode cX3_holds 209 = .ok (.aload_n 0, 1) := dk_42 (dk_at dksX3_holds_9 3 rfl rfl)
theorem dX3_holds_210 : decode cX3_holds 210 = .ok (.getfield 62, 3) := dk_180 0 62 (dk_at dksX3_holds_9 4 rfl rfl)
theorem dX3_holds_213 : decode cX3_holds 213 = .ok (.iload_n 2, 1) := dk_28 (dk_at dksX3_holds_9 7 rfl rfl)
theorem dX3_holds_214 : decode cX3_holds 214 = .ok (.iconst 1, 1) := dk_4 (dk_at dksX3_holds_9 8 rfl rfl)
theorem dX3_holds_215 : decode cX3_holds 215 = .ok (.isub, 1) := dk_100 (dk_at dksX3_holds_9 9 rfl rfl)
theorem dX3_holds_216 : decode cX3_holds 216 = .ok (.iload 5, 2) := dk_21 5 (dk_at dksX3_holds_9 10 rfl rfl)
theorem dX3_holds_218 : decode cX3_holds 218 = .ok (.iload 6, 2) := dk_21 6 (dk_at dksX3_holds_9 12 rfl rfl)
theorem dX3_holds_220 : decode cX3_holds 220 = .ok (.if_icmp .ne 7, 3) := dk_160 0 7 (dk_at dksX3_holds_9 14 rfl rfl)
theorem dX3_holds_223 : decode cX3_holds 223 = .ok (.iconst 1, 1) := dk_4 (dk_at dksX3_holds_9 17 rfl rfl)
theorem dX3_holds_224 : decode cX3_holds 224 = .ok (.goto 4, 3) := dk_167 0 4 (dk_at dksX3_holds_9 18 rfl rfl)
theorem dX3_holds_227 : decode cX3_holds 227 = .ok (.iconst 0, 1) := dk_3 (dk_at dksX3_holds_9 21 rfl rfl)
theorem dX3_holds_228 : decode cX3_holds 228 = .ok (.iastore, 1) := dk_79 (dk_at dksX3_holds_9 22 rfl rfl)
theorem dX3_holds_229 : decode cX3_holds 229 = .ok (.goto 78, 3) := dk_167 0 78 (dk_at dksX3_holds_10 0 rfl rfl)
theorem dX3_holds_232 : decode cX3_holds 232 = .ok (.aload_n 0, 1) := dk_42 (dk_at dksX3_holds_10 3 rfl rfl)
theorem dX3_holds_233 : decode cX3_holds 233 = .ok (.getfield 62, 3) := dk_180 0 62 (dk_at dksX3_holds_10 4 rfl rfl)
theorem dX3_holds_236 : decode cX3_holds 236 = .ok (.iload_n 2, 1) := dk_28 (dk_at dksX3_holds_10 7 rfl rfl)
theorem dX3_holds_237 : decode cX3_holds 237 = .ok (.iconst 1, 1) := dk_4 (dk_at dksX3_holds_10 8 rfl rfl)
theorem dX3_holds_238 : decode cX3_holds 238 = .ok (.isub, 1) := dk_100 (dk_at dksX3_holds_10 9 rfl rfl)
theorem dX3_holds_239 : decode cX3_holds 239 = .ok (.iload 5, 2) := dk_21 5 (dk_at dksX3_holds_10 10 rfl rfl)
theorem dX3_holds_241 : decode cX3_holds 241 = .ok (.iload 6, 2) := dk_21 6 (dk_at dksX3_holds_10 12 rfl rfl)
theorem dX3_holds_243 : decode cX3_holds 243 = .ok (.if_icmp .ge 7, 3) := dk_162 0 7 (dk_at dksX3_holds_10 14 rfl rfl)
theorem dX3_holds_246 : decode cX3_holds 246 = .ok (.iconst 1, 1) := dk_4 (dk_at dksX3_holds_10 17 rfl rfl)
theorem dX3_holds_247 : decode cX3_holds 247 = .ok (.goto 4, 3) := dk_167 0 4 (dk_at dksX3_holds_10 18 rfl rfl)
theorem dX3_holds_250 : decode cX3_holds 250 = .ok (.iconst 0, 1) := dk_3 (dk_at dksX3_holds_10 21 rfl rfl)
theorem dX3_holds_251 : decode cX3_holds 251 = .ok (.iastore, 1) := dk_79 (dk_at dksX3_holds_10 22 rfl rfl)
theorem dX3_holds_252 : decode cX3_holds 252 = .ok (.goto 55, 3) := dk_167 0 55 (dk_at dksX3_holds_11 0 rfl rfl)
theorem dX3_holds_255 : decode cX3_holds 255 = .ok (.aload_n 0, 1) := dk_42 (dk_at dksX3_holds_11 3 rfl rfl)
theorem dX3_holds_256 : decode cX3_holds 256 = .ok (.getfield 62, 3) := dk_180 0 62 (dk_at dksX3_holds_11 4 rfl rfl)
theorem dX3_holds_259 : decode cX3_holds 259 = .ok (.iload_n 2, 1) := dk_28 (dk_at dksX3_holds_11 7 rfl rfl)
theorem dX3_holds_260 : decode cX3_holds 260 = .ok (.iconst 1, 1) := dk_4 (dk_at dksX3_holds_11 8 rfl rfl)
theorem dX3_holds_261 : decode cX3_holds 261 = .ok (.isub, 1) := dk_100 (dk_at dksX3_holds_11 9 rfl rfl)
theorem dX3_holds_262 : decode cX3_holds 262 = .ok (.iload 5, 2) := dk_21 5 (dk_at dksX3_holds_11 10 rfl rfl)
theorem dX3_holds_264 : decode cX3_holds 264 = .ok (.iload 6, 2) := dk_21 6 (dk_at dksX3_holds_11 12 rfl rfl)
theorem dX3_holds_266 : decode cX3_holds 266 = .ok (.if_icmp .le 7, 3) := dk_164 0 7 (dk_at dksX3_holds_11 14 rfl rfl)
theorem dX3_holds_269 : decode cX3_holds 269 = .ok (.iconst 1, 1) := dk_4 (dk_at dksX3_holds_11 17 rfl rfl)
theorem dX3_holds_270 : decode cX3_holds 270 = .ok (.goto 4, 3) := dk_167 0 4 (dk_at dksX3_holds_11 18 rfl rfl)
theorem dX3_holds_273 : decode cX3_holds 273 = .ok (.iconst 0, 1) := dk_3 (dk_at dksX3_holds_11 21 rfl rfl)
theorem dX3_holds_274 : decode cX3_holds 274 = .ok (.iastore, 1) := dk_79 (dk_at dksX3_holds_11 22 rfl rfl)
theorem dX3_holds_275 : decode cX3_holds 275 = .ok (.goto 32, 3) := dk_167 0 32 (dk_at dksX3_holds_12 0 rfl rfl)
theorem dX3_holds_278 : decode cX3_holds 278 = .ok (.aload_n 0, 1) := dk_42 (dk_at dksX3_holds_12 3 rfl rfl)
theorem dX3_holds_279 : decode cX3_holds 279 = .ok (.getfield 62, 3) := dk_180 0 62 (dk_at dksX3_holds_12 4 rfl rfl)
theorem dX3_holds_282 : decode cX3_holds 282 = .ok (.iload_n 2, 1) := dk_28 (dk_at dksX3_holds_12 7 rfl rfl)
theorem dX3_holds_283 : decode cX3_holds 283 = .ok (.iconst 1, 1) := dk_4 (dk_at dksX3_holds_12 8 rfl rfl)
theorem dX3_holds_284 : decode cX3_holds 284 = .ok (.isub, 1) := dk_100 (dk_at dksX3_holds_12 9 rfl rfl)
theorem dX3_holds_285 : decode cX3_holds 285 = .ok (.iload 5, 2) := dk_21 5 (dk_at dksX3_holds_12 10 rfl rfl)
theorem dX3_holds_287 : decode cX3_holds 287 = .ok (.iload 6, 2) := dk_21 6 (dk_at dksX3_holds_12 12 rfl rfl)
theorem dX3_holds_289 : decode cX3_holds 289 = .ok (.iadd, 1) := dk_96 (dk_at dksX3_holds_12 14 rfl rfl)
theorem dX3_holds_290 : decode cX3_holds 290 = .ok (.iastore, 1) := dk_79 (dk_at dksX3_holds_12 15 rfl rfl)
theorem dX3_holds_291 : decode cX3_holds 291 = .ok (.goto 16, 3) := dk_167 0 16 (dk_at dksX3_holds_12 16 rfl rfl)
theorem dX3_holds_294 : decode cX3_holds 294 = .ok (.aload_n 0, 1) := dk_42 (dk_at dksX3_holds_12 19 rfl rfl)
theorem dX3_holds_295 : decode cX3_holds 295 = .ok (.getfield 62, 3) := dk_180 0 62 (dk_at dksX3_holds_12 20 rfl rfl)
theorem dX3_holds_298 : decode cX3_holds 298 = .ok (.iload_n 2, 1) := dk_28 (dk_at dksX3_holds_12 23 rfl rfl)
theorem dX3_holds_299 : decode cX3_holds 299 = .ok (.iconst 1, 1) := dk_4 (dk_at dksX3_holds_13 0 rfl rfl)
theorem dX3_holds_300 : decode cX3_holds 300 = .ok (.isub, 1) := dk_100 (dk_at dksX3_holds_13 1 rfl rfl)
theorem dX3_holds_301 : decode cX3_holds 301 = .ok (.iload 5, 2) := dk_21 5 (dk_at dksX3_holds_13 2 rfl rfl)
theorem dX3_holds_303 : decode cX3_holds 303 = .ok (.iload 6, 2) := dk_21 6 (dk_at dksX3_holds_13 4 rfl rfl)
theorem dX3_holds_305 : decode cX3_holds 305 = .ok (.isub, 1) := dk_100 (dk_at dksX3_holds_13 6 rfl rfl)
theorem dX3_holds_306 : decode cX3_holds 306 = .ok (.iastore, 1) := dk_79 (dk_at dksX3_holds_13 7 rfl rfl)
theorem dX3_holds_307 : decode cX3_holds 307 = .ok (.iinc 3 1, 3) := dk_132 3 1 (dk_at dksX3_holds_13 8 rfl rfl)
theorem dX3_holds_310 : decode cX3_holds 310 = .ok (.goto (-301), 3) := dk_167 254 211 (dk_at dksX3_holds_13 11 rfl rfl)
theorem dX3_holds_313 : decode cX3_holds 313 = .ok (.iload_n 2, 1) := dk_28 (dk_at dksX3_holds_13 14 rfl rfl)
theorem dX3_holds_314 : decode cX3_holds 314 = .ok (.ifCond .eq 13, 3) := dk_153 0 13 (dk_at dksX3_holds_13 15 rfl rfl)
theorem dX3_holds_317 : decode cX3_holds 317 = .ok (.aload_n 0, 1) := dk_42 (dk_at dksX3_holds_13 18 rfl rfl)
theorem dX3_holds_318 : decode cX3_holds 318 = .ok (.getfield 62, 3) := dk_180 0 62 (dk_at dksX3_holds_13 19 rfl rfl)
theorem dX3_holds_321 : decode cX3_holds 321 = .ok (.iconst 0, 1) := dk_3 (dk_at dksX3_holds_13 22 rfl rfl)
theorem dX3_holds_322 : decode cX3_holds 322 = .ok (.iaload, 1) := dk_46 (dk_at dksX3_holds_13 23 rfl rfl)
theorem dX3_holds_323 : decode cX3_holds 323 = .ok (.iconst 1, 1) := dk_4 (dk_at dksX3_holds_14 0 rfl rfl)
theorem dX3_holds_324 : decode cX3_holds 324 = .ok (.if_icmp .ne 7, 3) := dk_160 0 7 (dk_at dksX3_holds_14 1 rfl rfl)
theorem dX3_holds_327 : decode cX3_holds 327 = .ok (.iconst 1, 1) := dk_4 (dk_at dksX3_holds_14 4 rfl rfl)
theorem dX3_holds_328 : decode cX3_holds 328 = .ok (.goto 4, 3) := dk_167 0 4 (dk_at dksX3_holds_14 5 rfl rfl)
theorem dX3_holds_331 : decode cX3_holds 331 = .ok (.iconst 0, 1) := dk_3 (dk_at dksX3_holds_14 8 rfl rfl)
theorem dX3_holds_332 : decode cX3_holds 332 = .ok (.ireturn, 1) := dk_172 (dk_at dksX3_holds_14 9 rfl rfl)
abbrev cX3_worth : ByteArray := prog_16_method_40_code
def yX3_worth : MethodName := ⟨RX3, "worth", "()I"⟩
def dkwX3_worth_0 : List UInt8 := [42, 182, 1, 47, 42, 180, 0, 65, 3, 46, 172]
abbrev dktX3_worth_0 : List UInt8 := dkwX3_worth_0 ++ []
theorem dksX3_worth_0 : cX3_worth.data.toList.drop 0 = dktX3_worth_0 := by decide +kernel
theorem dX3_worth_0 : decode cX3_worth 0 = .ok (.aload_n 0, 1) := dk_42 (dk_at dksX3_worth_0 0 rfl rfl)
theorem dX3_worth_1 : decode cX3_worth 1 = .ok (.invokevirtual 303, 3) := dk_182 1 47 (dk_at dksX3_worth_0 1 rfl rfl)
theorem dX3_worth_4 : decode cX3_worth 4 = .ok (.aload_n 0, 1) := dk_42 (dk_at dksX3_worth_0 4 rfl rfl)
theorem dX3_worth_5 : decode cX3_worth 5 = .ok (.getfield 65, 3) := dk_180 0 65 (dk_at dksX3_worth_0 5 rfl rfl)
theorem dX3_worth_8 : decode cX3_worth 8 = .ok (.iconst 0, 1) := dk_3 (dk_at dksX3_worth_0 8 rfl rfl)
theorem dX3_worth_9 : decode cX3_worth 9 = .ok (.iaload, 1) := dk_46 (dk_at dksX3_worth_0 9 rfl rfl)
theorem dX3_worth_10 : decode cX3_worth 10 = .ok (.ireturn, 1) := dk_172 (dk_at dksX3_worth_0 10 rfl rfl)
abbrev cX3_clip : ByteArray := prog_16_method_39_code
def yX3_clip : MethodName := ⟨RX3, "clip", "()V"⟩
def dkwX3_clip_19 : List UInt8 := [180, 0, 74, 28, 46, 46, 167, 0, 4, 4, 96, 60, 167, 255, 50, 177]
abbrev dktX3_clip_19 : List UInt8 := dkwX3_clip_19 ++ []
def dkwX3_clip_18 : List UInt8 := [167, 255, 119, 132, 3, 1, 167, 255, 94, 27, 42, 180, 1, 44, 28, 164, 0, 17, 42, 180, 0, 20, 42]
abbrev dktX3_clip_18 : List UInt8 := dkwX3_clip_18 ++ dktX3_clip_19
def dkwX3_clip_17 : List UInt8 := [180, 0, 77, 42, 180, 1, 44, 21, 4, 79, 42, 89, 180, 1, 44, 4, 96, 181, 1, 44, 132, 4, 1]
abbrev dktX3_clip_17 : List UInt8 := dkwX3_clip_17 ++ dktX3_clip_18
def dkwX3_clip_16 : List UInt8 := [167, 0, 44, 42, 180, 0, 71, 42, 180, 1, 44, 27, 79, 42, 180, 0, 74, 42, 180, 1, 44, 29, 79, 42]
abbrev dktX3_clip_16 : List UInt8 := dkwX3_clip_16 ++ dktX3_clip_17
def dkwX3_clip_15 : List UInt8 := [180, 0, 68, 27, 42, 180, 0, 20, 29, 46, 96, 46, 96, 42, 180, 0, 68, 27, 46, 159, 0, 6]
abbrev dktX3_clip_15 : List UInt8 := dkwX3_clip_15 ++ dktX3_clip_16
def dkwX3_clip_14 : List UInt8 := [180, 0, 65, 27, 42, 180, 0, 20, 29, 46, 96, 46, 96, 42, 180, 0, 65, 27, 46, 160, 0, 71, 4, 42]
abbrev dktX3_clip_14 : List UInt8 := dkwX3_clip_14 ++ dktX3_clip_15
def dkwX3_clip_13 : List UInt8 := [184, 1, 40, 51, 153, 0, 108, 42, 180, 0, 23, 29, 46, 21, 4, 42, 180, 0, 56, 104, 100, 42]
abbrev dktX3_clip_13 : List UInt8 := dkwX3_clip_13 ++ dktX3_clip_14
def dkwX3_clip_12 : List UInt8 := [54, 4, 21, 4, 6, 163, 0, 137, 42, 180, 1, 44, 28, 160, 0, 129, 42, 180, 0, 80, 27, 29, 21, 4]
abbrev dktX3_clip_12 : List UInt8 := dkwX3_clip_12 ++ dktX3_clip_13
def dkwX3_clip_11 : List UInt8 := [42, 180, 1, 44, 61, 3, 62, 29, 42, 180, 1, 22, 162, 0, 160, 42, 180, 1, 44, 28, 160, 0, 152, 3]
abbrev dktX3_clip_11 : List UInt8 := dkwX3_clip_11 ++ dktX3_clip_12
def dkwX3_clip_10 : List UInt8 := [167, 255, 81, 132, 1, 255, 167, 255, 41, 42, 3, 181, 1, 44, 3, 60, 27, 42, 180, 1, 28, 162, 0, 204]
abbrev dktX3_clip_10 : List UInt8 := dkwX3_clip_10 ++ dktX3_clip_11
def dkwX3_clip_9 : List UInt8 := [180, 0, 65, 27, 21, 5, 79, 42, 180, 0, 68, 27, 21, 6, 79, 132, 3, 1, 167, 255, 97, 132, 2, 1]
abbrev dktX3_clip_9 : List UInt8 := dkwX3_clip_9 ++ dktX3_clip_10
def dkwX3_clip_8 : List UInt8 := [180, 0, 65, 27, 46, 160, 0, 17, 21, 6, 42, 180, 0, 68, 27, 46, 161, 0, 6, 167, 0, 19, 42]
abbrev dktX3_clip_8 : List UInt8 := dkwX3_clip_8 ++ dktX3_clip_9
def dkwX3_clip_7 : List UInt8 := [180, 0, 20, 28, 46, 96, 46, 96, 54, 6, 21, 5, 42, 180, 0, 65, 27, 46, 161, 0, 44, 21, 5, 42]
abbrev dktX3_clip_7 : List UInt8 := dkwX3_clip_7 ++ dktX3_clip_8
def dkwX3_clip_6 : List UInt8 := [42, 180, 0, 65, 27, 42, 180, 0, 20, 28, 46, 96, 46, 96, 54, 5, 4, 42, 180, 0, 68, 27, 42]
abbrev dktX3_clip_6 : List UInt8 := dkwX3_clip_6 ++ dktX3_clip_7
def dkwX3_clip_5 : List UInt8 := [21, 4, 84, 21, 4, 154, 0, 6, 167, 0, 101, 42, 180, 0, 23, 28, 46, 29, 42, 180, 0, 56, 104, 100]
abbrev dktX3_clip_5 : List UInt8 := dkwX3_clip_5 ++ dktX3_clip_6
def dkwX3_clip_4 : List UInt8 := [29, 182, 1, 37, 153, 0, 7, 4, 167, 0, 4, 3, 54, 4, 42, 180, 0, 80, 27, 28, 29, 184, 1, 40]
abbrev dktX3_clip_4 : List UInt8 := dkwX3_clip_4 ++ dktX3_clip_5
def dkwX3_clip_3 : List UInt8 := [62, 29, 6, 163, 0, 160, 27, 42, 180, 0, 20, 28, 46, 96, 42, 180, 1, 28, 163, 0, 17, 42, 27, 28]
abbrev dktX3_clip_3 : List UInt8 := dkwX3_clip_3 ++ dktX3_clip_4
def dkwX3_clip_2 : List UInt8 := [180, 0, 68, 27, 42, 180, 0, 68, 27, 4, 96, 46, 79, 3, 61, 28, 42, 180, 1, 22, 162, 0, 173, 3]
abbrev dktX3_clip_2 : List UInt8 := dkwX3_clip_2 ++ dktX3_clip_3
def dkwX3_clip_1 : List UInt8 := [4, 100, 60, 27, 155, 0, 217, 42, 180, 0, 65, 27, 42, 180, 0, 65, 27, 4, 96, 46, 79, 42]
abbrev dktX3_clip_1 : List UInt8 := dkwX3_clip_1 ++ dktX3_clip_2
def dkwX3_clip_0 : List UInt8 := [42, 180, 0, 65, 42, 180, 1, 28, 3, 79, 42, 180, 0, 68, 42, 180, 1, 28, 3, 79, 42, 180, 1, 28]
abbrev dktX3_clip_0 : List UInt8 := dkwX3_clip_0 ++ dktX3_clip_1
theorem dksX3_clip_0 : cX3_clip.data.toList.drop 0 = dktX3_clip_0 := by decide +kernel
theorem dksX3_clip_1 : cX3_clip.data.toList.drop 24 = dktX3_clip_1 := dk_seg dksX3_clip_0 24 rfl rfl
theorem dksX3_clip_2 : cX3_clip.data.toList.drop 46 = dktX3_clip_2 := dk_seg dksX3_clip_1 22 rfl rfl
theorem dksX3_clip_3 : cX3_clip.data.toList.drop 70 = dktX3_clip_3 := dk_seg dksX3_clip_2 24 rfl rfl
theorem dksX3_clip_4 : cX3_clip.data.toList.drop 94 = dktX3_clip_4 := dk_seg dksX3_clip_3 24 rfl rfl
theorem dksX3_clip_5 : cX3_clip.data.toList.drop 118 = dktX3_clip_5 := dk_seg dksX3_clip_4 24 rfl rfl
theorem dksX3_clip_6 : cX3_clip.data.toList.drop 142 = dktX3_clip_6 := dk_seg dksX3_clip_5 24 rfl rfl
theorem dksX3_clip_7 : cX3_clip.data.toList.drop 165 = dktX3_clip_7 := dk_seg dksX3_clip_6 23 rfl rfl
theorem dksX3_clip_8 : cX3_clip.data.toList.drop 189 = dktX3_clip_8 := dk_seg dksX3_clip_7 24 rfl rfl
theorem dksX3_clip_9 : cX3_clip.data.toList.drop 212 = dktX3_clip_9 := dk_seg dksX3_clip_8 23 rfl rfl
theorem dksX3_clip_10 : cX3_clip.data.toList.drop 236 = dktX3_clip_10 := dk_seg dksX3_clip_9 24 rfl rfl
theorem dksX3_clip_11 : cX3_clip.data.toList.drop 260 = dktX3_clip_11 := dk_seg dksX3_clip_10 24 rfl rfl
theorem dksX3_clip_12 : cX3_clip.data.toList.drop 284 = dktX3_clip_12 := dk_seg dksX3_clip_11 24 rfl rfl
theorem dksX3_clip_13 : cX3_clip.data.toList.drop 308 = dktX3_clip_13 := dk_seg dksX3_clip_12 24 rfl rfl
theorem dksX3_clip_14 : cX3_clip.data.toList.drop 330 = dktX3_clip_14 := dk_seg dksX3_clip_13 22 rfl rfl
theorem dksX3_clip_15 : cX3_clip.data.toList.drop 354 = dktX3_clip_15 := dk_seg dksX3_clip_14 24 rfl rfl
theorem dksX3_clip_16 : cX3_clip.data.toList.drop 376 = dktX3_clip_16 := dk_seg dksX3_clip_15 22 rfl rfl
theorem dksX3_clip_17 : cX3_clip.data.toList.drop 400 = dktX3_clip_17 := dk_seg dksX3_clip_16 24 rfl rfl
theorem dksX3_clip_18 : cX3_clip.data.toList.drop 423 = dktX3_clip_18 := dk_seg dksX3_clip_17 23 rfl rfl
theorem dksX3_clip_19 : cX3_clip.data.toList.drop 446 = dktX3_clip_19 := dk_seg dksX3_clip_18 23 rfl rfl
theorem dX3_clip_0 : decode cX3_clip 0 = .ok (.aload_n 0, 1) := dk_42 (dk_at dksX3_clip_0 0 rfl rfl)
theorem dX3_clip_1 : decode cX3_clip 1 = .ok (.getfield 65, 3) := dk_180 0 65 (dk_at dksX3_clip_0 1 rfl rfl)
theorem dX3_clip_4 : decode cX3_clip 4 = .ok (.aload_n 0, 1) := dk_42 (dk_at dksX3_clip_0 4 rfl rfl)
theorem dX3_clip_5 : decode cX3_clip 5 = .ok (.getfield 284, 3) := dk_180 1 28 (dk_at dksX3_clip_0 5 rfl rfl)
theorem dX3_clip_8 : decode cX3_clip 8 = .ok (.iconst 0, 1) := dk_3 (dk_at dksX3_clip_0 8 rfl rfl)
theorem dX3_clip_9 : decode cX3_clip 9 = .ok (.iastore, 1) := dk_79 (dk_at dksX3_clip_0 9 rfl rfl)
theorem dX3_clip_10 : decode cX3_clip 10 = .ok (.aload_n 0, 1) := dk_42 (dk_at dksX3_clip_0 10 rfl rfl)
theorem dX3_clip_11 : decode cX3_clip 11 = .ok (.getfield 68, 3) := dk_180 0 68 (dk_at dksX3_clip_0 11 rfl rfl)
theorem dX3_clip_14 : decode cX3_clip 14 = .ok (.aload_n 0, 1) := dk_42 (dk_at dksX3_clip_0 14 rfl rfl)
theorem dX3_clip_15 : decode cX3_clip 15 = .ok (.getfield 284, 3) := dk_180 1 28 (dk_at dksX3_clip_0 15 rfl rfl)
theorem dX3_clip_18 : decode cX3_clip 18 = .ok (.iconst 0, 1) := dk_3 (dk_at dksX3_clip_0 18 rfl rfl)
theorem dX3_clip_19 : decode cX3_clip 19 = .ok (.iastore, 1) := dk_79 (dk_at dksX3_clip_0 19 rfl rfl)
theorem dX3_clip_20 : decode cX3_clip 20 = .ok (.aload_n 0, 1) := dk_42 (dk_at dksX3_clip_0 20 rfl rfl)
theorem dX3_clip_21 : decode cX3_clip 21 = .ok (.getfield 284, 3) := dk_180 1 28 (dk_at dksX3_clip_0 21 rfl rfl)
theorem dX3_clip_24 : decode cX3_clip 24 = .ok (.iconst 1, 1) := dk_4 (dk_at dksX3_clip_1 0 rfl rfl)
theorem dX3_clip_25 : decode cX3_clip 25 = .ok (.isub, 1) := dk_100 (dk_at dksX3_clip_1 1 rfl rfl)
theorem dX3_clip_26 : decode cX3_clip 26 = .ok (.istore_n 1, 1) := dk_60 (dk_at dksX3_clip_1 2 rfl rfl)
theorem dX3_clip_27 : decode cX3_clip 27 = .ok (.iload_n 1, 1) := dk_27 (dk_at dksX3_clip_1 3 rfl rfl)
theorem dX3_clip_28 : decode cX3_clip 28 = .ok (.ifCond .lt 217, 3) := dk_155 0 217 (dk_at dksX3_clip_1 4 rfl rfl)
theorem dX3_clip_31 : decode cX3_clip 31 = .ok (.aload_n 0, 1) := dk_42 (dk_at dksX3_clip_1 7 rfl rfl)
theorem dX3_clip_32 : decode cX3_clip 32 = .ok (.getfield 65, 3) := dk_180 0 65 (dk_at dksX3_clip_1 8 rfl rfl)
theorem dX3_clip_35 : decode cX3_clip 35 = .ok (.iload_n 1, 1) := dk_27 (dk_at dksX3_clip_1 11 rfl rfl)
theorem dX3_clip_36 : decode cX3_clip 36 = .ok (.aload_n 0, 1) := dk_42 (dk_at dksX3_clip_1 12 rfl rfl)
theorem dX3_clip_37 : decode cX3_clip 37 = .ok (.getfield 65, 3) := dk_180 0 65 (dk_at dksX3_clip_1 13 rfl rfl)
theorem dX3_clip_40 : decode cX3_clip 40 = .ok (.iload_n 1, 1) := dk_27 (dk_at dksX3_clip_1 16 rfl rfl)
theorem dX3_clip_41 : decode cX3_clip 41 = .ok (.iconst 1, 1) := dk_4 (dk_at dksX3_clip_1 17 rfl rfl)
theorem dX3_clip_42 : decode cX3_clip 42 = .ok (.iadd, 1) := dk_96 (dk_at dksX3_clip_1 18 rfl rfl)
theorem dX3_clip_43 : decode cX3_clip 43 = .ok (.iaload, 1) := dk_46 (dk_at dksX3_clip_1 19 rfl rfl)
theorem dX3_clip_44 : decode cX3_clip 44 = .ok (.iastore, 1) := dk_79 (dk_at dksX3_clip_1 20 rfl rfl)
theorem dX3_clip_45 : decode cX3_clip 45 = .ok (.aload_n 0, 1) := dk_42 (dk_at dksX3_clip_1 21 rfl rfl)
theorem dX3_clip_46 : decode cX3_clip 46 = .ok (.getfield 68, 3) := dk_180 0 68 (dk_at dksX3_clip_2 0 rfl rfl)
theorem dX3_clip_49 : decode cX3_clip 49 = .ok (.iload_n 1, 1) := dk_27 (dk_at dksX3_clip_2 3 rfl rfl)
theorem dX3_clip_50 : decode cX3_clip 50 = .ok (.aload_n 0, 1) := dk_42 (dk_at dksX3_clip_2 4 rfl rfl)
theorem dX3_clip_51 : decode cX3_clip 51 = .ok (.getfield 68, 3) := dk_180 0 68 (dk_at dksX3_clip_2 5 rfl rfl)
theorem dX3_clip_54 : decode cX3_clip 54 = .ok (.iload_n 1, 1) := dk_27 (dk_at dksX3_clip_2 8 rfl rfl)
theorem dX3_clip_55 : decode cX3_clip 55 = .ok (.iconst 1, 1) := dk_4 (dk_at dksX3_clip_2 9 rfl rfl)
theorem dX3_clip_56 : decode cX3_clip 56 = .ok (.iadd, 1) := dk_96 (dk_at dksX3_clip_2 10 rfl rfl)
theorem dX3_clip_57 : decode cX3_clip 57 = .ok (.iaload, 1) := dk_46 (dk_at dksX3_clip_2 11 rfl rfl)
theorem dX3_clip_58 : decode cX3_clip 58 = .ok (.iastore, 1) := dk_79 (dk_at dksX3_clip_2 12 rfl rfl)
theorem dX3_clip_59 : decode cX3_clip 59 = .ok (.iconst 0, 1) := dk_3 (dk_at dksX3_clip_2 13 rfl rfl)
theorem dX3_clip_60 : decode cX3_clip 60 = .ok (.istore_n 2, 1) := dk_61 (dk_at dksX3_clip_2 14 rfl rfl)
theorem dX3_clip_61 : decode cX3_clip 61 = .ok (.iload_n 2, 1) := dk_28 (dk_at dksX3_clip_2 15 rfl rfl)
theorem dX3_clip_62 : decode cX3_clip 62 = .ok (.aload_n 0, 1) := dk_42 (dk_at dksX3_clip_2 16 rfl rfl)
theorem dX3_clip_63 : decode cX3_clip 63 = .ok (.getfield 278, 3) := dk_180 1 22 (dk_at dksX3_clip_2 17 rfl rfl)
theorem dX3_clip_66 : decode cX3_clip 66 = .ok (.if_icmp .ge 173, 3) := dk_162 0 173 (dk_at dksX3_clip_2 20 rfl rfl)
theorem dX3_clip_69 : decode cX3_clip 69 = .ok (.iconst 0, 1) := dk_3 (dk_at dksX3_clip_2 23 rfl rfl)
theorem dX3_clip_70 : decode cX3_clip 70 = .ok (.istore_n 3, 1) := dk_62 (dk_at dksX3_clip_3 0 rfl rfl)
theorem dX3_clip_71 : decode cX3_clip 71 = .ok (.iload_n 3, 1) := dk_29 (dk_at dksX3_clip_3 1 rfl rfl)
theorem dX3_clip_72 : decode cX3_clip 72 = .ok (.iconst 3, 1) := dk_6 (dk_at dksX3_clip_3 2 rfl rfl)
theorem dX3_clip_73 : decode cX3_clip 73 = .ok (.if_icmp .gt 160, 3) := dk_163 0 160 (dk_at dksX3_clip_3 3 rfl rfl)
theorem dX3_clip_76 : decode cX3_clip 76 = .ok (.iload_n 1, 1) := dk_27 (dk_at dksX3_clip_3 6 rfl rfl)
theorem dX3_clip_77 : decode cX3_clip 77 = .ok (.aload_n 0, 1) := dk_42 (dk_at dksX3_clip_3 7 rfl rfl)
theorem dX3_clip_78 : decode cX3_clip 78 = .ok (.getfield 20, 3) := dk_180 0 20 (dk_at dksX3_clip_3 8 rfl rfl)
theorem dX3_clip_81 : decode cX3_clip 81 = .ok (.iload_n 2, 1) := dk_28 (dk_at dksX3_clip_3 11 rfl rfl)
theorem dX3_clip_82 : decode cX3_clip 82 = .ok (.iaload, 1) := dk_46 (dk_at dksX3_clip_3 12 rfl rfl)
theorem dX3_clip_83 : decode cX3_clip 83 = .ok (.iadd, 1) := dk_96 (dk_at dksX3_clip_3 13 rfl rfl)
theorem dX3_clip_84 : decode cX3_clip 84 = .ok (.aload_n 0, 1) := dk_42 (dk_at dksX3_clip_3 14 rfl rfl)
theorem dX3_clip_85 : decode cX3_clip 85 = .ok (.getfield 284, 3) := dk_180 1 28 (dk_at dksX3_clip_3 15 rfl rfl)
theorem dX3_clip_88 : decode cX3_clip 88 = .ok (.if_icmp .gt 17, 3) := dk_163 0 17 (dk_at dksX3_clip_3 18 rfl rfl)
theorem dX3_clip_91 : decode cX3_clip 91 = .ok (.aload_n 0, 1) := dk_42 (dk_at dksX3_clip_3 21 rfl rfl)
theorem dX3_clip_92 : decode cX3_clip 92 = .ok (.iload_n 1, 1) := dk_27 (dk_at dksX3_clip_3 22 rfl rfl)
theorem dX3_clip_93 : decode cX3_clip 93 = .ok (.iload_n 2, 1) := dk_28 (dk_at dksX3_clip_3 23 rfl rfl)
theorem dX3_clip_94 : decode cX3_clip 94 = .ok (.iload_n 3, 1) := dk_29 (dk_at dksX3_clip_4 0 rfl rfl)
theorem dX3_clip_95 : decode cX3_clip 95 = .ok (.invokevirtual 293, 3) := dk_182 1 37 (dk_at dksX3_clip_4 1 rfl rfl)
theorem dX3_clip_98 : decode cX3_clip 98 = .ok (.ifCond .eq 7, 3) := dk_153 0 7 (dk_at dksX3_clip_4 4 rfl rfl)
theorem dX3_clip_101 : decode cX3_clip 101 = .ok (.iconst 1, 1) := dk_4 (dk_at dksX3_clip_4 7 rfl rfl)
theorem dX3_clip_102 : decode cX3_clip 102 = .ok (.goto 4, 3) := dk_167 0 4 (dk_at dksX3_clip_4 8 rfl rfl)
theorem dX3_clip_105 : decode cX3_clip 105 = .ok (.iconst 0, 1) := dk_3 (dk_at dksX3_clip_4 11 rfl rfl)
theorem dX3_clip_106 : decode cX3_clip 106 = .ok (.istore 4, 2) := dk_54 4 (dk_at dksX3_clip_4 12 rfl rfl)
theorem dX3_clip_108 : decode cX3_clip 108 = .ok (.aload_n 0, 1) := dk_42 (dk_at dksX3_clip_4 14 rfl rfl)
theorem dX3_clip_109 : decode cX3_clip 109 = .ok (.getfield 80, 3) := dk_180 0 80 (dk_at dksX3_clip_4 15 rfl rfl)
theorem dX3_clip_112 : decode cX3_clip 112 = .ok (.iload_n 1, 1) := dk_27 (dk_at dksX3_clip_4 18 rfl rfl)
theorem dX3_clip_113 : decode cX3_clip 113 = .ok (.iload_n 2, 1) := dk_28 (dk_at dksX3_clip_4 19 rfl rfl)
theorem dX3_clip_114 : decode cX3_clip 114 = .ok (.iload_n 3, 1) := dk_29 (dk_at dksX3_clip_4 20 rfl rfl)
theorem dX3_clip_115 : decode cX3_clip 115 = .ok (.invokestatic 296, 3) := dk_184 1 40 (dk_at dksX3_clip_4 21 rfl rfl)
theorem dX3_clip_118 : decode cX3_clip 118 = .ok (.iload 4, 2) := dk_21 4 (dk_at dksX3_clip_5 0 rfl rfl)
theorem dX3_clip_120 : decode cX3_clip 120 = .ok (.bastore, 1) := dk_84 (dk_at dksX3_clip_5 2 rfl rfl)
theorem dX3_clip_121 : decode cX3_clip 121 = .ok (.iload 4, 2) := dk_21 4 (dk_at dksX3_clip_5 3 rfl rfl)
theorem dX3_clip_123 : decode cX3_clip 123 = .ok (.ifCond .ne 6, 3) := dk_154 0 6 (dk_at dksX3_clip_5 5 rfl rfl)
theorem dX3_clip_126 : decode cX3_clip 126 = .ok (.goto 101, 3) := dk_167 0 101 (dk_at dksX3_clip_5 8 rfl rfl)
theorem dX3_clip_129 : decode cX3_clip 129 = .ok (.aload_n 0, 1) := dk_42 (dk_at dksX3_clip_5 11 rfl rfl)
theorem dX3_clip_130 : decode cX3_clip 130 = .ok (.getfield 23, 3) := dk_180 0 23 (dk_at dksX3_clip_5 12 rfl rfl)
theorem dX3_clip_133 : decode cX3_clip 133 = .ok (.iload_n 2, 1) := dk_28 (dk_at dksX3_clip_5 15 rfl rfl)
theorem dX3_clip_134 : decode cX3_clip 134 = .ok (.iaload, 1) := dk_46 (dk_at dksX3_clip_5 16 rfl rfl)
theorem dX3_clip_135 : decode cX3_clip 135 = .ok (.iload_n 3, 1) := dk_29 (dk_at dksX3_clip_5 17 rfl rfl)
theorem dX3_clip_136 : decode cX3_clip 136 = .ok (.aload_n 0, 1) := dk_42 (dk_at dksX3_clip_5 18 rfl rfl)
theorem dX3_clip_137 : decode cX3_clip 137 = .ok (.getfield 56, 3) := dk_180 0 56 (dk_at dksX3_clip_5 19 rfl rfl)
theorem dX3_clip_140 : decode cX3_clip 140 = .ok (.imul, 1) := dk_104 (dk_at dksX3_clip_5 22 rfl rfl)
theorem dX3_clip_141 : decode cX3_clip 141 = .ok (.isub, 1) := dk_100 (dk_at dksX3_clip_5 23 rfl rfl)
theorem dX3_clip_142 : decode cX3_clip 142 = .ok (.aload_n 0, 1) := dk_42 (dk_at dksX3_clip_6 0 rfl rfl)
theorem dX3_clip_143 : decode cX3_clip 143 = .ok (.getfield 65, 3) := dk_180 0 65 (dk_at dksX3_clip_6 1 rfl rfl)
theorem dX3_clip_146 : decode cX3_clip 146 = .ok (.iload_n 1, 1) := dk_27 (dk_at dksX3_clip_6 4 rfl rfl)
theorem dX3_clip_147 : decode cX3_clip 147 = .ok (.aload_n 0, 1) := dk_42 (dk_at dksX3_clip_6 5 rfl rfl)
theorem dX3_clip_148 : decode cX3_clip 148 = .ok (.getfield 20, 3) := dk_180 0 20 (dk_at dksX3_clip_6 6 rfl rfl)
theorem dX3_clip_151 : decode cX3_clip 151 = .ok (.iload_n 2, 1) := dk_28 (dk_at dksX3_clip_6 9 rfl rfl)
theorem dX3_clip_152 : decode cX3_clip 152 = .ok (.iaload, 1) := dk_46 (dk_at dksX3_clip_6 10 rfl rfl)
theorem dX3_clip_153 : decode cX3_clip 153 = .ok (.iadd, 1) := dk_96 (dk_at dksX3_clip_6 11 rfl rfl)
theorem dX3_clip_154 : decode cX3_clip 154 = .ok (.iaload, 1) := dk_46 (dk_at dksX3_clip_6 12 rfl rfl)
theorem dX3_clip_155 : decode cX3_clip 155 = .ok (.iadd, 1) := dk_96 (dk_at dksX3_clip_6 13 rfl rfl)
theorem dX3_clip_156 : decode cX3_clip 156 = .ok (.istore 5, 2) := dk_54 5 (dk_at dksX3_clip_6 14 rfl rfl)
theorem dX3_clip_158 : decode cX3_clip 158 = .ok (.iconst 1, 1) := dk_4 (dk_at dksX3_clip_6 16 rfl rfl)
theorem dX3_clip_159 : decode cX3_clip 159 = .ok (.aload_n 0, 1) := dk_42 (dk_at dksX3_clip_6 17 rfl rfl)
theorem dX3_clip_160 : decode cX3_clip 160 = .ok (.getfield 68, 3) := dk_180 0 68 (dk_at dksX3_clip_6 18 rfl rfl)
theorem dX3_clip_163 : decode cX3_clip 163 = .ok (.iload_n 1, 1) := dk_27 (dk_at dksX3_clip_6 21 rfl rfl)
theorem dX3_clip_164 : decode cX3_clip 164 = .ok (.aload_n 0, 1) := dk_42 (dk_at dksX3_clip_6 22 rfl rfl)
theorem dX3_clip_165 : decode cX3_clip 165 = .ok (.getfield 20, 3) := dk_180 0 20 (dk_at dksX3_clip_7 0 rfl rfl)
theorem dX3_clip_168 : decode cX3_clip 168 = .ok (.iload_n 2, 1) := dk_28 (dk_at dksX3_clip_7 3 rfl rfl)
theorem dX3_clip_169 : decode cX3_clip 169 = .ok (.iaload, 1) := dk_46 (dk_at dksX3_clip_7 4 rfl rfl)
theorem dX3_clip_170 : decode cX3_clip 170 = .ok (.iadd, 1) := dk_96 (dk_at dksX3_clip_7 5 rfl rfl)
theorem dX3_clip_171 : decode cX3_clip 171 = .ok (.iaload, 1) := dk_46 (dk_at dksX3_clip_7 6 rfl rfl)
theorem dX3_clip_172 : decode cX3_clip 172 = .ok (.iadd, 1) := dk_96 (dk_at dksX3_clip_7 7 rfl rfl)
theorem dX3_clip_173 : decode cX3_clip 173 = .ok (.istore 6, 2) := dk_54 6 (dk_at dksX3_clip_7 8 rfl rfl)
theorem dX3_clip_175 : decode cX3_clip 175 = .ok (.iload 5, 2) := dk_21 5 (dk_at dksX3_clip_7 10 rfl rfl)
theorem dX3_clip_177 : decode cX3_clip 177 = .ok (.aload_n 0, 1) := dk_42 (dk_at dksX3_clip_7 12 rfl rfl)
theorem dX3_clip_178 : decode cX3_clip 178 = .ok (.getfield 65, 3) := dk_180 0 65 (dk_at dksX3_clip_7 13 rfl rfl)
theorem dX3_clip_181 : decode cX3_clip 181 = .ok (.iload_n 1, 1) := dk_27 (dk_at dksX3_clip_7 16 rfl rfl)
theorem dX3_clip_182 : decode cX3_clip 182 = .ok (.iaload, 1) := dk_46 (dk_at dksX3_clip_7 17 rfl rfl)
theorem dX3_clip_183 : decode cX3_clip 183 = .ok (.if_icmp .lt 44, 3) := dk_161 0 44 (dk_at dksX3_clip_7 18 rfl rfl)
theorem dX3_clip_186 : decode cX3_clip 186 = .ok (.iload 5, 2) := dk_21 5 (dk_at dksX3_clip_7 21 rfl rfl)
theorem dX3_clip_188 : decode cX3_clip 188 = .ok (.aload_n 0, 1) := dk_42 (dk_at dksX3_clip_7 23 rfl rfl)
theorem dX3_clip_189 : decode cX3_clip 189 = .ok (.getfield 65, 3) := dk_180 0 65 (dk_at dksX3_clip_8 0 rfl rfl)
theorem dX3_clip_192 : decode cX3_clip 192 = .ok (.iload_n 1, 1) := dk_27 (dk_at dksX3_clip_8 3 rfl rfl)
theorem dX3_clip_193 : decode cX3_clip 193 = .ok (.iaload, 1) := dk_46 (dk_at dksX3_clip_8 4 rfl rfl)
theorem dX3_clip_194 : decode cX3_clip 194 = .ok (.if_icmp .ne 17, 3) := dk_160 0 17 (dk_at dksX3_clip_8 5 rfl rfl)
theorem dX3_clip_197 : decode cX3_clip 197 = .ok (.iload 6, 2) := dk_21 6 (dk_at dksX3_clip_8 8 rfl rfl)
theorem dX3_clip_199 : decode cX3_clip 199 = .ok (.aload_n 0, 1) := dk_42 (dk_at dksX3_clip_8 10 rfl rfl)
theorem dX3_clip_200 : decode cX3_clip 200 = .ok (.getfield 68, 3) := dk_180 0 68 (dk_at dksX3_clip_8 11 rfl rfl)
theorem dX3_clip_203 : decode cX3_clip 203 = .ok (.iload_n 1, 1) := dk_27 (dk_at dksX3_clip_8 14 rfl rfl)
theorem dX3_clip_204 : decode cX3_clip 204 = .ok (.iaload, 1) := dk_46 (dk_at dksX3_clip_8 15 rfl rfl)
theorem dX3_clip_205 : decode cX3_clip 205 = .ok (.if_icmp .lt 6, 3) := dk_161 0 6 (dk_at dksX3_clip_8 16 rfl rfl)
theorem dX3_clip_208 : decode cX3_clip 208 = .ok (.goto 19, 3) := dk_167 0 19 (dk_at dksX3_clip_8 19 rfl rfl)
theorem dX3_clip_211 : decode cX3_clip 211 = .ok (.aload_n 0, 1) := dk_42 (dk_at dksX3_clip_8 22 rfl rfl)
theorem dX3_clip_212 : decode cX3_clip 212 = .ok (.getfield 65, 3) := dk_180 0 65 (dk_at dksX3_clip_9 0 rfl rfl)
theorem dX3_clip_215 : decode cX3_clip 215 = .ok (.iload_n 1, 1) := dk_27 (dk_at dksX3_clip_9 3 rfl rfl)
theorem dX3_clip_216 : decode cX3_clip 216 = .ok (.iload 5, 2) := dk_21 5 (dk_at dksX3_clip_9 4 rfl rfl)
theorem dX3_clip_218 : decode cX3_clip 218 = .ok (.iastore, 1) := dk_79 (dk_at dksX3_clip_9 6 rfl rfl)
theorem dX3_clip_219 : decode cX3_clip 219 = .ok (.aload_n 0, 1) := dk_42 (dk_at dksX3_clip_9 7 rfl rfl)
theorem dX3_clip_220 : decode cX3_clip 220 = .ok (.getfield 68, 3) := dk_180 0 68 (dk_at dksX3_clip_9 8 rfl rfl)
theorem dX3_clip_223 : decode cX3_clip 223 = .ok (.iload_n 1, 1) := dk_27 (dk_at dksX3_clip_9 11 rfl rfl)
theorem dX3_clip_224 : decode cX3_clip 224 = .ok (.iload 6, 2) := dk_21 6 (dk_at dksX3_clip_9 12 rfl rfl)
theorem dX3_clip_226 : decode cX3_clip 226 = .ok (.iastore, 1) := dk_79 (dk_at dksX3_clip_9 14 rfl rfl)
theorem dX3_clip_227 : decode cX3_clip 227 = .ok (.iinc 3 1, 3) := dk_132 3 1 (dk_at dksX3_clip_9 15 rfl rfl)
theorem dX3_clip_230 : decode cX3_clip 230 = .ok (.goto (-159), 3) := dk_167 255 97 (dk_at dksX3_clip_9 18 rfl rfl)
theorem dX3_clip_233 : decode cX3_clip 233 = .ok (.iinc 2 1, 3) := dk_132 2 1 (dk_at dksX3_clip_9 21 rfl rfl)
theorem dX3_clip_236 : decode cX3_clip 236 = .ok (.goto (-175), 3) := dk_167 255 81 (dk_at dksX3_clip_10 0 rfl rfl)
theorem dX3_clip_239 : decode cX3_clip 239 = .ok (.iinc 1 (-1), 3) := dk_132 1 255 (dk_at dksX3_clip_10 3 rfl rfl)
theorem dX3_clip_242 : decode cX3_clip 242 = .ok (.goto (-215), 3) := dk_167 255 41 (dk_at dksX3_clip_10 6 rfl rfl)
theorem dX3_clip_245 : decode cX3_clip 245 = .ok (.aload_n 0, 1) := dk_42 (dk_at dksX3_clip_10 9 rfl rfl)
theorem dX3_clip_246 : decode cX3_clip 246 = .ok (.iconst 0, 1) := dk_3 (dk_at dksX3_clip_10 10 rfl rfl)
theorem dX3_clip_247 : decode cX3_clip 247 = .ok (.putfield 300, 3) := dk_181 1 44 (dk_at dksX3_clip_10 11 rfl rfl)
theorem dX3_clip_250 : decode cX3_clip 250 = .ok (.iconst 0, 1) := dk_3 (dk_at dksX3_clip_10 14 rfl rfl)
theorem dX3_clip_251 : decode cX3_clip 251 = .ok (.istore_n 1, 1) := dk_60 (dk_at dksX3_clip_10 15 rfl rfl)
theorem dX3_clip_252 : decode cX3_clip 252 = .ok (.iload_n 1, 1) := dk_27 (dk_at dksX3_clip_10 16 rfl rfl)
theorem dX3_clip_253 : decode cX3_clip 253 = .ok (.aload_n 0, 1) := dk_42 (dk_at dksX3_clip_10 17 rfl rfl)
theorem dX3_clip_254 : decode cX3_clip 254 = .ok (.getfield 284, 3) := dk_180 1 28 (dk_at dksX3_clip_10 18 rfl rfl)
theorem dX3_clip_257 : decode cX3_clip 257 = .ok (.if_icmp .ge 204, 3) := dk_162 0 204 (dk_at dksX3_clip_10 21 rfl rfl)
theorem dX3_clip_260 : decode cX3_clip 260 = .ok (.aload_n 0, 1) := dk_42 (dk_at dksX3_clip_11 0 rfl rfl)
theorem dX3_clip_261 : decode cX3_clip 261 = .ok (.getfield 300, 3) := dk_180 1 44 (dk_at dksX3_clip_11 1 rfl rfl)
theorem dX3_clip_264 : decode cX3_clip 264 = .ok (.istore_n 2, 1) := dk_61 (dk_at dksX3_clip_11 4 rfl rfl)
theorem dX3_clip_265 : decode cX3_clip 265 = .ok (.iconst 0, 1) := dk_3 (dk_at dksX3_clip_11 5 rfl rfl)
theorem dX3_clip_266 : decode cX3_clip 266 = .ok (.istore_n 3, 1) := dk_62 (dk_at dksX3_clip_11 6 rfl rfl)
theorem dX3_clip_267 : decode cX3_clip 267 = .ok (.iload_n 3, 1) := dk_29 (dk_at dksX3_clip_11 7 rfl rfl)
theorem dX3_clip_268 : decode cX3_clip 268 = .ok (.aload_n 0, 1) := dk_42 (dk_at dksX3_clip_11 8 rfl rfl)
theorem dX3_clip_269 : decode cX3_clip 269 = .ok (.getfield 278, 3) := dk_180 1 22 (dk_at dksX3_clip_11 9 rfl rfl)
theorem dX3_clip_272 : decode cX3_clip 272 = .ok (.if_icmp .ge 160, 3) := dk_162 0 160 (dk_at dksX3_clip_11 12 rfl rfl)
theorem dX3_clip_275 : decode cX3_clip 275 = .ok (.aload_n 0, 1) := dk_42 (dk_at dksX3_clip_11 15 rfl rfl)
theorem dX3_clip_276 : decode cX3_clip 276 = .ok (.getfield 300, 3) := dk_180 1 44 (dk_at dksX3_clip_11 16 rfl rfl)
theorem dX3_clip_279 : decode cX3_clip 279 = .ok (.iload_n 2, 1) := dk_28 (dk_at dksX3_clip_11 19 rfl rfl)
theorem dX3_clip_280 : decode cX3_clip 280 = .ok (.if_icmp .ne 152, 3) := dk_160 0 152 (dk_at dksX3_clip_11 20 rfl rfl)
theorem dX3_clip_283 : decode cX3_clip 283 = .ok (.iconst 0, 1) := dk_3 (dk_at dksX3_clip_11 23 rfl rfl)
theorem dX3_clip_284 : decode cX3_clip 284 = .ok (.istore 4, 2) := dk_54 4 (dk_at dksX3_clip_12 0 rfl rfl)
theorem dX3_clip_286 : decode cX3_clip 286 = .ok (.iload 4, 2) := dk_21 4 (dk_at dksX3_clip_12 2 rfl rfl)
theorem dX3_clip_288 : decode cX3_clip 288 = .ok (.iconst 3, 1) := dk_6 (dk_at dksX3_clip_12 4 rfl rfl)
theorem dX3_clip_289 : decode cX3_clip 289 = .ok (.if_icmp .gt 137, 3) := dk_163 0 137 (dk_at dksX3_clip_12 5 rfl rfl)
theorem dX3_clip_292 : decode cX3_clip 292 = .ok (.aload_n 0, 1) := dk_42 (dk_at dksX3_clip_12 8 rfl rfl)
theorem dX3_clip_293 : decode cX3_clip 293 = .ok (.getfield 300, 3) := dk_180 1 44 (dk_at dksX3_clip_12 9 rfl rfl)
theorem dX3_clip_296 : decode cX3_clip 296 = .ok (.iload_n 2, 1) := dk_28 (dk_at dksX3_clip_12 12 rfl rfl)
theorem dX3_clip_297 : decode cX3_clip 297 = .ok (.if_icmp .ne 129, 3) := dk_160 0 129 (dk_at dksX3_clip_12 13 rfl rfl)
theorem dX3_clip_300 : decode cX3_clip 300 = .ok (.aload_n 0, 1) := dk_42 (dk_at dksX3_clip_12 16 rfl rfl)
theorem dX3_clip_301 : decode cX3_clip 301 = .ok (.getfield 80, 3) := dk_180 0 80 (dk_at dksX3_clip_12 17 rfl rfl)
theorem dX3_clip_304 : decode cX3_clip 304 = .ok (.iload_n 1, 1) := dk_27 (dk_at dksX3_clip_12 20 rfl rfl)
theorem dX3_clip_305 : decode cX3_clip 305 = .ok (.iload_n 3, 1) := dk_29 (dk_at dksX3_clip_12 21 rfl rfl)
theorem dX3_clip_306 : decode cX3_clip 306 = .ok (.iload 4, 2) := dk_21 4 (dk_at dksX3_clip_12 22 rfl rfl)
theorem dX3_clip_308 : decode cX3_clip 308 = .ok (.invokestatic 296, 3) := dk_184 1 40 (dk_at dksX3_clip_13 0 rfl rfl)
theorem dX3_clip_311 : decode cX3_clip 311 = .ok (.baload, 1) := dk_51 (dk_at dksX3_clip_13 3 rfl rfl)
theorem dX3_clip_312 : decode cX3_clip 312 = .ok (.ifCond .eq 108, 3) := dk_153 0 108 (dk_at dksX3_clip_13 4 rfl rfl)
theorem dX3_clip_315 : decode cX3_clip 315 = .ok (.aload_n 0, 1) := dk_42 (dk_at dksX3_clip_13 7 rfl rfl)
theorem dX3_clip_316 : decode cX3_clip 316 = .ok (.getfield 23, 3) := dk_180 0 23 (dk_at dksX3_clip_13 8 rfl rfl)
theorem dX3_clip_319 : decode cX3_clip 319 = .ok (.iload_n 3, 1) := dk_29 (dk_at dksX3_clip_13 11 rfl rfl)
theorem dX3_clip_320 : decode cX3_clip 320 = .ok (.iaload, 1) := dk_46 (dk_at dksX3_clip_13 12 rfl rfl)
theorem dX3_clip_321 : decode cX3_clip 321 = .ok (.iload 4, 2) := dk_21 4 (dk_at dksX3_clip_13 13 rfl rfl)
theorem dX3_clip_323 : decode cX3_clip 323 = .ok (.aload_n 0, 1) := dk_42 (dk_at dksX3_clip_13 15 rfl rfl)
theorem dX3_clip_324 : decode cX3_clip 324 = .ok (.getfield 56, 3) := dk_180 0 56 (dk_at dksX3_clip_13 16 rfl rfl)
theorem dX3_clip_327 : decode cX3_clip 327 = .ok (.imul, 1) := dk_104 (dk_at dksX3_clip_13 19 rfl rfl)
theorem dX3_clip_328 : decode cX3_clip 328 = .ok (.isub, 1) := dk_100 (dk_at dksX3_clip_13 20 rfl rfl)
theorem dX3_clip_329 : decode cX3_clip 329 = .ok (.aload_n 0, 1) := dk_42 (dk_at dksX3_clip_13 21 rfl rfl)
theorem dX3_clip_330 : decode cX3_clip 330 = .ok (.getfield 65, 3) := dk_180 0 65 (dk_at dksX3_clip_14 0 rfl rfl)
theorem dX3_clip_333 : decode cX3_clip 333 = .ok (.iload_n 1, 1) := dk_27 (dk_at dksX3_clip_14 3 rfl rfl)
theorem dX3_clip_334 : decode cX3_clip 334 = .ok (.aload_n 0, 1) := dk_42 (dk_at dksX3_clip_14 4 rfl rfl)
theorem dX3_clip_335 : decode cX3_clip 335 = .ok (.getfield 20, 3) := dk_180 0 20 (dk_at dksX3_clip_14 5 rfl rfl)
theorem dX3_clip_338 : decode cX3_clip 338 = .ok (.iload_n 3, 1) := dk_29 (dk_at dksX3_clip_14 8 rfl rfl)
theorem dX3_clip_339 : decode cX3_clip 339 = .ok (.iaload, 1) := dk_46 (dk_at dksX3_clip_14 9 rfl rfl)
theorem dX3_clip_340 : decode cX3_clip 340 = .ok (.iadd, 1) := dk_96 (dk_at dksX3_clip_14 10 rfl rfl)
theorem dX3_clip_341 : decode cX3_clip 341 = .ok (.iaload, 1) := dk_46 (dk_at dksX3_clip_14 11 rfl rfl)
theorem dX3_clip_342 : decode cX3_clip 342 = .ok (.iadd, 1) := dk_96 (dk_at dksX3_clip_14 12 rfl rfl)
theorem dX3_clip_343 : decode cX3_clip 343 = .ok (.aload_n 0, 1) := dk_42 (dk_at dksX3_clip_14 13 rfl rfl)
theorem dX3_clip_344 : decode cX3_clip 344 = .ok (.getfield 65, 3) := dk_180 0 65 (dk_at dksX3_clip_14 14 rfl rfl)
theorem dX3_clip_347 : decode cX3_clip 347 = .ok (.iload_n 1, 1) := dk_27 (dk_at dksX3_clip_14 17 rfl rfl)
theorem dX3_clip_348 : decode cX3_clip 348 = .ok (.iaload, 1) := dk_46 (dk_at dksX3_clip_14 18 rfl rfl)
theorem dX3_clip_349 : decode cX3_clip 349 = .ok (.if_icmp .ne 71, 3) := dk_160 0 71 (dk_at dksX3_clip_14 19 rfl rfl)
theorem dX3_clip_352 : decode cX3_clip 352 = .ok (.iconst 1, 1) := dk_4 (dk_at dksX3_clip_14 22 rfl rfl)
theorem dX3_clip_353 : decode cX3_clip 353 = .ok (.aload_n 0, 1) := dk_42 (dk_at dksX3_clip_14 23 rfl rfl)
theorem dX3_clip_354 : decode cX3_clip 354 = .ok (.getfield 68, 3) := dk_180 0 68 (dk_at dksX3_clip_15 0 rfl rfl)
theorem dX3_clip_357 : decode cX3_clip 357 = .ok (.iload_n 1, 1) := dk_27 (dk_at dksX3_clip_15 3 rfl rfl)
theorem dX3_clip_358 : decode cX3_clip 358 = .ok (.aload_n 0, 1) := dk_42 (dk_at dksX3_clip_15 4 rfl rfl)
theorem dX3_clip_359 : decode cX3_clip 359 = .ok (.getfield 20, 3) := dk_180 0 20 (dk_at dksX3_clip_15 5 rfl rfl)
theorem dX3_clip_362 : decode cX3_clip 362 = .ok (.iload_n 3, 1) := dk_29 (dk_at dksX3_clip_15 8 rfl rfl)
theorem dX3_clip_363 : decode cX3_clip 363 = .ok (.iaload, 1) := dk_46 (dk_at dksX3_clip_15 9 rfl rfl)
theorem dX3_clip_364 : decode cX3_clip 364 = .ok (.iadd, 1) := dk_96 (dk_at dksX3_clip_15 10 rfl rfl)
theorem dX3_clip_365 : decode cX3_clip 365 = .ok (.iaload, 1) := dk_46 (dk_at dksX3_clip_15 11 rfl rfl)
theorem dX3_clip_366 : decode cX3_clip 366 = .ok (.iadd, 1) := dk_96 (dk_at dksX3_clip_15 12 rfl rfl)
theorem dX3_clip_367 : decode cX3_clip 367 = .ok (.aload_n 0, 1) := dk_42 (dk_at dksX3_clip_15 13 rfl rfl)
theorem dX3_clip_368 : decode cX3_clip 368 = .ok (.getfield 68, 3) := dk_180 0 68 (dk_at dksX3_clip_15 14 rfl rfl)
theorem dX3_clip_371 : decode cX3_clip 371 = .ok (.iload_n 1, 1) := dk_27 (dk_at dksX3_clip_15 17 rfl rfl)
theorem dX3_clip_372 : decode cX3_clip 372 = .ok (.iaload, 1) := dk_46 (dk_at dksX3_clip_15 18 rfl rfl)
theorem dX3_clip_373 : decode cX3_clip 373 = .ok (.if_icmp .eq 6, 3) := dk_159 0 6 (dk_at dksX3_clip_15 19 rfl rfl)
theorem dX3_clip_376 : decode cX3_clip 376 = .ok (.goto 44, 3) := dk_167 0 44 (dk_at dksX3_clip_16 0 rfl rfl)
theorem dX3_clip_379 : decode cX3_clip 379 = .ok (.aload_n 0, 1) := dk_42 (dk_at dksX3_clip_16 3 rfl rfl)
theorem dX3_clip_380 : decode cX3_clip 380 = .ok (.getfield 71, 3) := dk_180 0 71 (dk_at dksX3_clip_16 4 rfl rfl)
theorem dX3_clip_383 : decode cX3_clip 383 = .ok (.aload_n 0, 1) := dk_42 (dk_at dksX3_clip_16 7 rfl rfl)
theorem dX3_clip_384 : decode cX3_clip 384 = .ok (.getfield 300, 3) := dk_180 1 44 (dk_at dksX3_clip_16 8 rfl rfl)
theorem dX3_clip_387 : decode cX3_clip 387 = .ok (.iload_n 1, 1) := dk_27 (dk_at dksX3_clip_16 11 rfl rfl)
theorem dX3_clip_388 : decode cX3_clip 388 = .ok (.iastore, 1) := dk_79 (dk_at dksX3_clip_16 12 rfl rfl)
theorem dX3_clip_389 : decode cX3_clip 389 = .ok (.aload_n 0, 1) := dk_42 (dk_at dksX3_clip_16 13 rfl rfl)
theorem dX3_clip_390 : decode cX3_clip 390 = .ok (.getfield 74, 3) := dk_180 0 74 (dk_at dksX3_clip_16 14 rfl rfl)
theorem dX3_clip_393 : decode cX3_clip 393 = .ok (.aload_n 0, 1) := dk_42 (dk_at dksX3_clip_16 17 rfl rfl)
theorem dX3_clip_394 : decode cX3_clip 394 = .ok (.getfield 300, 3) := dk_180 1 44 (dk_at dksX3_clip_16 18 rfl rfl)
theorem dX3_clip_397 : decode cX3_clip 397 = .ok (.iload_n 3, 1) := dk_29 (dk_at dksX3_clip_16 21 rfl rfl)
theorem dX3_clip_398 : decode cX3_clip 398 = .ok (.iastore, 1) := dk_79 (dk_at dksX3_clip_16 22 rfl rfl)
theorem dX3_clip_399 : decode cX3_clip 399 = .ok (.aload_n 0, 1) := dk_42 (dk_at dksX3_clip_16 23 rfl rfl)
theorem dX3_clip_400 : decode cX3_clip 400 = .ok (.getfield 77, 3) := dk_180 0 77 (dk_at dksX3_clip_17 0 rfl rfl)
theorem dX3_clip_403 : decode cX3_clip 403 = .ok (.aload_n 0, 1) := dk_42 (dk_at dksX3_clip_17 3 rfl rfl)
theorem dX3_clip_404 : decode cX3_clip 404 = .ok (.getfield 300, 3) := dk_180 1 44 (dk_at dksX3_clip_17 4 rfl rfl)
theorem dX3_clip_407 : decode cX3_clip 407 = .ok (.iload 4, 2) := dk_21 4 (dk_at dksX3_clip_17 7 rfl rfl)
theorem dX3_clip_409 : decode cX3_clip 409 = .ok (.iastore, 1) := dk_79 (dk_at dksX3_clip_17 9 rfl rfl)
theorem dX3_clip_410 : decode cX3_clip 410 = .ok (.aload_n 0, 1) := dk_42 (dk_at dksX3_clip_17 10 rfl rfl)
theorem dX3_clip_411 : decode cX3_clip 411 = .ok (.dup, 1) := dk_89 (dk_at dksX3_clip_17 11 rfl rfl)
theorem dX3_clip_412 : decode cX3_clip 412 = .ok (.getfield 300, 3) := dk_180 1 44 (dk_at dksX3_clip_17 12 rfl rfl)
theorem dX3_clip_415 : decode cX3_clip 415 = .ok (.iconst 1, 1) := dk_4 (dk_at dksX3_clip_17 15 rfl rfl)
theorem dX3_clip_416 : decode cX3_clip 416 = .ok (.iadd, 1) := dk_96 (dk_at dksX3_clip_17 16 rfl rfl)
theorem dX3_clip_417 : decode cX3_clip 417 = .ok (.putfield 300, 3) := dk_181 1 44 (dk_at dksX3_clip_17 17 rfl rfl)
theorem dX3_clip_420 : decode cX3_clip 420 = .ok (.iinc 4 1, 3) := dk_132 4 1 (dk_at dksX3_clip_17 20 rfl rfl)
theorem dX3_clip_423 : decode cX3_clip 423 = .ok (.goto (-137), 3) := dk_167 255 119 (dk_at dksX3_clip_18 0 rfl rfl)
theorem dX3_clip_426 : decode cX3_clip 426 = .ok (.iinc 3 1, 3) := dk_132 3 1 (dk_at dksX3_clip_18 3 rfl rfl)
theorem dX3_clip_429 : decode cX3_clip 429 = .ok (.goto (-162), 3) := dk_167 255 94 (dk_at dksX3_clip_18 6 rfl rfl)
theorem dX3_clip_432 : decode cX3_clip 432 = .ok (.iload_n 1, 1) := dk_27 (dk_at dksX3_clip_18 9 rfl rfl)
theorem dX3_clip_433 : decode cX3_clip 433 = .ok (.aload_n 0, 1) := dk_42 (dk_at dksX3_clip_18 10 rfl rfl)
theorem dX3_clip_434 : decode cX3_clip 434 = .ok (.getfield 300, 3) := dk_180 1 44 (dk_at dksX3_clip_18 11 rfl rfl)
theorem dX3_clip_437 : decode cX3_clip 437 = .ok (.iload_n 2, 1) := dk_28 (dk_at dksX3_clip_18 14 rfl rfl)
theorem dX3_clip_438 : decode cX3_clip 438 = .ok (.if_icmp .le 17, 3) := dk_164 0 17 (dk_at dksX3_clip_18 15 rfl rfl)
theorem dX3_clip_441 : decode cX3_clip 441 = .ok (.aload_n 0, 1) := dk_42 (dk_at dksX3_clip_18 18 rfl rfl)
theorem dX3_clip_442 : decode cX3_clip 442 = .ok (.getfield 20, 3) := dk_180 0 20 (dk_at dksX3_clip_18 19 rfl rfl)
theorem dX3_clip_445 : decode cX3_clip 445 = .ok (.aload_n 0, 1) := dk_42 (dk_at dksX3_clip_18 22 rfl rfl)
theorem dX3_clip_446 : decode cX3_clip 446 = .ok (.getfield 74, 3) := dk_180 0 74 (dk_at dksX3_clip_19 0 rfl rfl)
theorem dX3_clip_449 : decode cX3_clip 449 = .ok (.iload_n 2, 1) := dk_28 (dk_at dksX3_clip_19 3 rfl rfl)
theorem dX3_clip_450 : decode cX3_clip 450 = .ok (.iaload, 1) := dk_46 (dk_at dksX3_clip_19 4 rfl rfl)
theorem dX3_clip_451 : decode cX3_clip 451 = .ok (.iaload, 1) := dk_46 (dk_at dksX3_clip_19 5 rfl rfl)
theorem dX3_clip_452 : decode cX3_clip 452 = .ok (.goto 4, 3) := dk_167 0 4 (dk_at dksX3_clip_19 6 rfl rfl)
theorem dX3_clip_455 : decode cX3_clip 455 = .ok (.iconst 1, 1) := dk_4 (dk_at dksX3_clip_19 9 rfl rfl)
theorem dX3_clip_456 : decode cX3_clip 456 = .ok (.iadd, 1) := dk_96 (dk_at dksX3_clip_19 10 rfl rfl)
theorem dX3_clip_457 : decode cX3_clip 457 = .ok (.istore_n 1, 1) := dk_60 (dk_at dksX3_clip_19 11 rfl rfl)
theorem dX3_clip_458 : decode cX3_clip 458 = .ok (.goto (-206), 3) := dk_167 255 50 (dk_at dksX3_clip_19 12 rfl rfl)
theorem dX3_clip_461 : decode cX3_clip 461 = .ok (.return_, 1) := dk_177 (dk_at dksX3_clip_19 15 rfl rfl)
abbrev cX3_cell : ByteArray := prog_16_method_38_code
def yX3_cell : MethodName := ⟨RX3, "cell", "(III)I"⟩
def dkwX3_cell_0 : List UInt8 := [26, 16, 8, 104, 27, 96, 7, 104, 28, 96, 172]
abbrev dktX3_cell_0 : List UInt8 := dkwX3_cell_0 ++ []
theorem dksX3_cell_0 : cX3_cell.data.toList.drop 0 = dktX3_cell_0 := by decide +kernel
theorem dX3_cell_0 : decode cX3_cell 0 = .ok (.iload_n 0, 1) := dk_26 (dk_at dksX3_cell_0 0 rfl rfl)
theorem dX3_cell_1 : decode cX3_cell 1 = .ok (.bipush 8, 2) := dk_16 8 (dk_at dksX3_cell_0 1 rfl rfl)
theorem dX3_cell_3 : decode cX3_cell 3 = .ok (.imul, 1) := dk_104 (dk_at dksX3_cell_0 3 rfl rfl)
theorem dX3_cell_4 : decode cX3_cell 4 = .ok (.iload_n 1, 1) := dk_27 (dk_at dksX3_cell_0 4 rfl rfl)
theorem dX3_cell_5 : decode cX3_cell 5 = .ok (.iadd, 1) := dk_96 (dk_at dksX3_cell_0 5 rfl rfl)
theorem dX3_cell_6 : decode cX3_cell 6 = .ok (.iconst 4, 1) := dk_7 (dk_at dksX3_cell_0 6 rfl rfl)
theorem dX3_cell_7 : decode cX3_cell 7 = .ok (.imul, 1) := dk_104 (dk_at dksX3_cell_0 7 rfl rfl)
theorem dX3_cell_8 : decode cX3_cell 8 = .ok (.iload_n 2, 1) := dk_28 (dk_at dksX3_cell_0 8 rfl rfl)
theorem dX3_cell_9 : decode cX3_cell 9 = .ok (.iadd, 1) := dk_96 (dk_at dksX3_cell_0 9 rfl rfl)
theorem dX3_cell_10 : decode cX3_cell 10 = .ok (.ireturn, 1) := dk_172 (dk_at dksX3_cell_0 10 rfl rfl)
abbrev cX3_sheets : ByteArray := prog_16_method_41_code
def yX3_sheets : MethodName := ⟨RX3, "sheets", "()I"⟩
def dkwX3_sheets_0 : List UInt8 := [42, 182, 1, 47, 42, 180, 1, 44, 172]
abbrev dktX3_sheets_0 : List UInt8 := dkwX3_sheets_0 ++ []
theorem dksX3_sheets_0 : cX3_sheets.data.toList.drop 0 = dktX3_sheets_0 := by decide +kernel
theorem dX3_sheets_0 : decode cX3_sheets 0 = .ok (.aload_n 0, 1) := dk_42 (dk_at dksX3_sheets_0 0 rfl rfl)
theorem dX3_sheets_1 : decode cX3_sheets 1 = .ok (.invokevirtual 303, 3) := dk_182 1 47 (dk_at dksX3_sheets_0 1 rfl rfl)
theorem dX3_sheets_4 : decode cX3_sheets 4 = .ok (.aload_n 0, 1) := dk_42 (dk_at dksX3_sheets_0 4 rfl rfl)
theorem dX3_sheets_5 : decode cX3_sheets 5 = .ok (.getfield 300, 3) := dk_180 1 44 (dk_at dksX3_sheets_0 5 rfl rfl)
theorem dX3_sheets_8 : decode cX3_sheets 8 = .ok (.ireturn, 1) := dk_172 (dk_at dksX3_sheets_0 8 rfl rfl)
abbrev cX3_clipped : ByteArray := prog_16_method_42_code
def yX3_clipped : MethodName := ⟨RX3, "clipped", "(II)I"⟩
def dkwX3_clipped_2 : List UInt8 := [5, 160, 0, 12, 42, 180, 0, 77, 27, 46, 167, 0, 4, 2, 172]
abbrev dktX3_clipped_2 : List UInt8 := dkwX3_clipped_2 ++ []
def dkwX3_clipped_1 : List UInt8 := [42, 180, 0, 71, 27, 46, 167, 0, 32, 28, 4, 160, 0, 12, 42, 180, 0, 74, 27, 46, 167, 0, 18, 28]
abbrev dktX3_clipped_1 : List UInt8 := dkwX3_clipped_1 ++ dktX3_clipped_2
def dkwX3_clipped_0 : List UInt8 := [42, 182, 1, 47, 27, 155, 0, 11, 27, 42, 180, 1, 44, 161, 0, 7, 2, 167, 0, 45, 28, 154, 0, 12]
abbrev dktX3_clipped_0 : List UInt8 := dkwX3_clipped_0 ++ dktX3_clipped_1
theorem dksX3_clipped_0 : cX3_clipped.data.toList.drop 0 = dktX3_clipped_0 := by decide +kernel
theorem dksX3_clipped_1 : cX3_clipped.data.toList.drop 24 = dktX3_clipped_1 := dk_seg dksX3_clipped_0 24 rfl rfl
theorem dksX3_clipped_2 : cX3_clipped.data.toList.drop 48 = dktX3_clipped_2 := dk_seg dksX3_clipped_1 24 rfl rfl
theorem dX3_clipped_0 : decode cX3_clipped 0 = .ok (.aload_n 0, 1) := dk_42 (dk_at dksX3_clipped_0 0 rfl rfl)
theorem dX3_clipped_1 : decode cX3_clipped 1 = .ok (.invokevirtual 303, 3) := dk_182 1 47 (dk_at dksX3_clipped_0 1 rfl rfl)
theorem dX3_clipped_4 : decode cX3_clipped 4 = .ok (.iload_n 1, 1) := dk_27 (dk_at dksX3_clipped_0 4 rfl rfl)
theorem dX3_clipped_5 : decode cX3_clipped 5 = .ok (.ifCond .lt 11, 3) := dk_155 0 11 (dk_at dksX3_clipped_0 5 rfl rfl)
theorem dX3_clipped_8 : decode cX3_clipped 8 = .ok (.iload_n 1, 1) := dk_27 (dk_at dksX3_clipped_0 8 rfl rfl)
theorem dX3_clipped_9 : decode cX3_clipped 9 = .ok (.aload_n 0, 1) := dk_42 (dk_at dksX3_clipped_0 9 rfl rfl)
theorem dX3_clipped_10 : decode cX3_clipped 10 = .ok (.getfield 300, 3) := dk_180 1 44 (dk_at dksX3_clipped_0 10 rfl rfl)
theorem dX3_clipped_13 : decode cX3_clipped 13 = .ok (.if_icmp .lt 7, 3) := dk_161 0 7 (dk_at dksX3_clipped_0 13 rfl rfl)
theorem dX3_clipped_16 : decode cX3_clipped 16 = .ok (.iconst (-1), 1) := dk_2 (dk_at dksX3_clipped_0 16 rfl rfl)
theorem dX3_clipped_17 : decode cX3_clipped 17 = .ok (.goto 45, 3) := dk_167 0 45 (dk_at dksX3_clipped_0 17 rfl rfl)
theorem dX3_clipped_20 : decode cX3_clipped 20 = .ok (.iload_n 2, 1) := dk_28 (dk_at dksX3_clipped_0 20 rfl rfl)
theorem dX3_clipped_21 : decode cX3_clipped 21 = .ok (.ifCond .ne 12, 3) := dk_154 0 12 (dk_at dksX3_clipped_0 21 rfl rfl)
theorem dX3_clipped_24 : decode cX3_clipped 24 = .ok (.aload_n 0, 1) := dk_42 (dk_at dksX3_clipped_1 0 rfl rfl)
theorem dX3_clipped_25 : decode cX3_clipped 25 = .ok (.getfield 71, 3) := dk_180 0 71 (dk_at dksX3_clipped_1 1 rfl rfl)
theorem dX3_clipped_28 : decode cX3_clipped 28 = .ok (.iload_n 1, 1) := dk_27 (dk_at dksX3_clipped_1 4 rfl rfl)
theorem dX3_clipped_29 : decode cX3_clipped 29 = .ok (.iaload, 1) := dk_46 (dk_at dksX3_clipped_1 5 rfl rfl)
theorem dX3_clipped_30 : decode cX3_clipped 30 = .ok (.goto 32, 3) := dk_167 0 32 (dk_at dksX3_clipped_1 6 rfl rfl)
theorem dX3_clipped_33 : decode cX3_clipped 33 = .ok (.iload_n 2, 1) := dk_28 (dk_at dksX3_clipped_1 9 rfl rfl)
theorem dX3_clipped_34 : decode cX3_clipped 34 = .ok (.iconst 1, 1) := dk_4 (dk_at dksX3_clipped_1 10 rfl rfl)
theorem dX3_clipped_35 : decode cX3_clipped 35 = .ok (.if_icmp .ne 12, 3) := dk_160 0 12 (dk_at dksX3_clipped_1 11 rfl rfl)
theorem dX3_clipped_38 : decode cX3_clipped 38 = .ok (.aload_n 0, 1) := dk_42 (dk_at dksX3_clipped_1 14 rfl rfl)
theorem dX3_clipped_39 : decode cX3_clipped 39 = .ok (.getfield 74, 3) := dk_180 0 74 (dk_at dksX3_clipped_1 15 rfl rfl)
theorem dX3_clipped_42 : decode cX3_clipped 42 = .ok (.iload_n 1, 1) := dk_27 (dk_at dksX3_clipped_1 18 rfl rfl)
theorem dX3_clipped_43 : decode cX3_clipped 43 = .ok (.iaload, 1) := dk_46 (dk_at dksX3_clipped_1 19 rfl rfl)
theorem dX3_clipped_44 : decode cX3_clipped 44 = .ok (.goto 18, 3) := dk_167 0 18 (dk_at dksX3_clipped_1 20 rfl rfl)
theorem dX3_clipped_47 : decode cX3_clipped 47 = .ok (.iload_n 2, 1) := dk_28 (dk_at dksX3_clipped_1 23 rfl rfl)
theorem dX3_clipped_48 : decode cX3_clipped 48 = .ok (.iconst 2, 1) := dk_5 (dk_at dksX3_clipped_2 0 rfl rfl)
theorem dX3_clipped_49 : decode cX3_clipped 49 = .ok (.if_icmp .ne 12, 3) := dk_160 0 12 (dk_at dksX3_clipped_2 1 rfl rfl)
theorem dX3_clipped_52 : decode cX3_clipped 52 = .ok (.aload_n 0, 1) := dk_42 (dk_at dksX3_clipped_2 4 rfl rfl)
theorem dX3_clipped_53 : decode cX3_clipped 53 = .ok (.getfield 77, 3) := dk_180 0 77 (dk_at dksX3_clipped_2 5 rfl rfl)
theorem dX3_clipped_56 : decode cX3_clipped 56 = .ok (.iload_n 1, 1) := dk_27 (dk_at dksX3_clipped_2 8 rfl rfl)
theorem dX3_clipped_57 : decode cX3_clipped 57 = .ok (.iaload, 1) := dk_46 (dk_at dksX3_clipped_2 9 rfl rfl)
theorem dX3_clipped_58 : decode cX3_clipped 58 = .ok (.goto 4, 3) := dk_167 0 4 (dk_at dksX3_clipped_2 10 rfl rfl)
theorem dX3_clipped_61 : decode cX3_clipped 61 = .ok (.iconst (-1), 1) := dk_2 (dk_at dksX3_clipped_2 13 rfl rfl)
theorem dX3_clipped_62 : decode cX3_clipped 62 = .ok (.ireturn, 1) := dk_172 (dk_at dksX3_clipped_2 14 rfl rfl)
abbrev cX3_veneer : ByteArray := prog_16_method_43_code
def yX3_veneer : MethodName := ⟨RX3, "veneer", "(IIIIZ)Z"⟩
def dkwX3_veneer_3 : List UInt8 := [21, 4, 79, 42, 180, 0, 96, 27, 21, 5, 84, 4, 172]
abbrev dktX3_veneer_3 : List UInt8 := dkwX3_veneer_3 ++ []
def dkwX3_veneer_2 : List UInt8 := [164, 0, 5, 3, 172, 42, 180, 0, 84, 27, 28, 79, 42, 180, 0, 87, 27, 29, 79, 42, 180, 0, 90, 27]
abbrev dktX3_veneer_2 : List UInt8 := dkwX3_veneer_2 ++ dktX3_veneer_3
def dkwX3_veneer_1 : List UInt8 := [155, 0, 27, 29, 16, 20, 163, 0, 21, 29, 28, 163, 0, 16, 21, 4, 155, 0, 11, 21, 4, 17, 3, 232]
abbrev dktX3_veneer_1 : List UInt8 := dkwX3_veneer_1 ++ dktX3_veneer_2
def dkwX3_veneer_0 : List UInt8 := [27, 155, 0, 48, 27, 16, 6, 162, 0, 42, 28, 4, 161, 0, 37, 28, 16, 90, 163, 0, 31, 29]
abbrev dktX3_veneer_0 : List UInt8 := dkwX3_veneer_0 ++ dktX3_veneer_1
theorem dksX3_veneer_0 : cX3_veneer.data.toList.drop 0 = dktX3_veneer_0 := by decide +kernel
theorem dksX3_veneer_1 : cX3_veneer.data.toList.drop 22 = dktX3_veneer_1 := dk_seg dksX3_veneer_0 22 rfl rfl
theorem dksX3_veneer_2 : cX3_veneer.data.toList.drop 46 = dktX3_veneer_2 := dk_seg dksX3_veneer_1 24 rfl rfl
theorem dksX3_veneer_3 : cX3_veneer.data.toList.drop 70 = dktX3_veneer_3 := dk_seg dksX3_veneer_2 24 rfl rfl
theorem dX3_veneer_0 : decode cX3_veneer 0 = .ok (.iload_n 1, 1) := dk_27 (dk_at dksX3_veneer_0 0 rfl rfl)
theorem dX3_veneer_1 : decode cX3_veneer 1 = .ok (.ifCond .lt 48, 3) := dk_155 0 48 (dk_at dksX3_veneer_0 1 rfl rfl)
theorem dX3_veneer_4 : decode cX3_veneer 4 = .ok (.iload_n 1, 1) := dk_27 (dk_at dksX3_veneer_0 4 rfl rfl)
theorem dX3_veneer_5 : decode cX3_veneer 5 = .ok (.bipush 6, 2) := dk_16 6 (dk_at dksX3_veneer_0 5 rfl rfl)
theorem dX3_veneer_7 : decode cX3_veneer 7 = .ok (.if_icmp .ge 42, 3) := dk_162 0 42 (dk_at dksX3_veneer_0 7 rfl rfl)
theorem dX3_veneer_10 : decode cX3_veneer 10 = .ok (.iload_n 2, 1) := dk_28 (dk_at dksX3_veneer_0 10 rfl rfl)
theorem dX3_veneer_11 : decode cX3_veneer 11 = .ok (.iconst 1, 1) := dk_4 (dk_at dksX3_veneer_0 11 rfl rfl)
theorem dX3_veneer_12 : decode cX3_veneer 12 = .ok (.if_icmp .lt 37, 3) := dk_161 0 37 (dk_at dksX3_veneer_0 12 rfl rfl)
theorem dX3_veneer_15 : decode cX3_veneer 15 = .ok (.iload_n 2, 1) := dk_28 (dk_at dksX3_veneer_0 15 rfl rfl)
theorem dX3_veneer_16 : decode cX3_veneer 16 = .ok (.bipush 90, 2) := dk_16 90 (dk_at dksX3_veneer_0 16 rfl rfl)
theorem dX3_veneer_18 : decode cX3_veneer 18 = .ok (.if_icmp .gt 31, 3) := dk_163 0 31 (dk_at dksX3_veneer_0 18 rfl rfl)
theorem dX3_veneer_21 : decode cX3_veneer 21 = .ok (.iload_n 3, 1) := dk_29 (dk_at dksX3_veneer_0 21 rfl rfl)
theorem dX3_veneer_22 : decode cX3_veneer 22 = .ok (.ifCond .lt 27, 3) := dk_155 0 27 (dk_at dksX3_veneer_1 0 rfl rfl)
theorem dX3_veneer_25 : decode cX3_veneer 25 = .ok (.iload_n 3, 1) := dk_29 (dk_at dksX3_veneer_1 3 rfl rfl)
theorem dX3_veneer_26 : decode cX3_veneer 26 = .ok (.bipush 20, 2) := dk_16 20 (dk_at dksX3_veneer_1 4 rfl rfl)
theorem dX3_veneer_28 : decode cX3_veneer 28 = .ok (.if_icmp .gt 21, 3) := dk_163 0 21 (dk_at dksX3_veneer_1 6 rfl rfl)
theorem dX3_veneer_31 : decode cX3_veneer 31 = .ok (.iload_n 3, 1) := dk_29 (dk_at dksX3_veneer_1 9 rfl rfl)
theorem dX3_veneer_32 : decode cX3_veneer 32 = .ok (.iload_n 2, 1) := dk_28 (dk_at dksX3_veneer_1 10 rfl rfl)
theorem dX3_veneer_33 : decode cX3_veneer 33 = .ok (.if_icmp .gt 16, 3) := dk_163 0 16 (dk_at dksX3_veneer_1 11 rfl rfl)
theorem dX3_veneer_36 : decode cX3_veneer 36 = .ok (.iload 4, 2) := dk_21 4 (dk_at dksX3_veneer_1 14 rfl rfl)
theorem dX3_veneer_38 : decode cX3_veneer 38 = .ok (.ifCond .lt 11, 3) := dk_155 0 11 (dk_at dksX3_veneer_1 16 rfl rfl)
theorem dX3_veneer_41 : decode cX3_veneer 41 = .ok (.iload 4, 2) := dk_21 4 (dk_at dksX3_veneer_1 19 rfl rfl)
theorem dX3_veneer_43 : decode cX3_veneer 43 = .ok (.sipush 1000, 3) := dk_17 3 232 (dk_at dksX3_veneer_1 21 rfl rfl)
theorem dX3_veneer_46 : decode cX3_veneer 46 = .ok (.if_icmp .le 5, 3) := dk_164 0 5 (dk_at dksX3_veneer_2 0 rfl rfl)
theorem dX3_veneer_49 : decode cX3_veneer 49 = .ok (.iconst 0, 1) := dk_3 (dk_at dksX3_veneer_2 3 rfl rfl)
theorem dX3_veneer_50 : decode cX3_veneer 50 = .ok (.ireturn, 1) := dk_172 (dk_at dksX3_veneer_2 4 rfl rfl)
theorem dX3_veneer_51 : decode cX3_veneer 51 = .ok (.aload_n 0, 1) := dk_42 (dk_at dksX3_veneer_2 5 rfl rfl)
theorem dX3_veneer_52 : decode cX3_veneer 52 = .ok (.getfield 84, 3) := dk_180 0 84 (dk_at dksX3_veneer_2 6 rfl rfl)
theorem dX3_veneer_55 : decode cX3_veneer 55 = .ok (.iload_n 1, 1) := dk_27 (dk_at dksX3_veneer_2 9 rfl rfl)
theorem dX3_veneer_56 : decode cX3_veneer 56 = .ok (.iload_n 2, 1) := dk_28 (dk_at dksX3_veneer_2 10 rfl rfl)
theorem dX3_veneer_57 : decode cX3_veneer 57 = .ok (.iastore, 1) := dk_79 (dk_at dksX3_veneer_2 11 rfl rfl)
theorem dX3_veneer_58 : decode cX3_veneer 58 = .ok (.aload_n 0, 1) := dk_42 (dk_at dksX3_veneer_2 12 rfl rfl)
theorem dX3_veneer_59 : decode cX3_veneer 59 = .ok (.getfield 87, 3) := dk_180 0 87 (dk_at dksX3_veneer_2 13 rfl rfl)
theorem dX3_veneer_62 : decode cX3_veneer 62 = .ok (.iload_n 1, 1) := dk_27 (dk_at dksX3_veneer_2 16 rfl rfl)
theorem dX3_veneer_63 : decode cX3_veneer 63 = .ok (.iload_n 3, 1) := dk_29 (dk_at dksX3_veneer_2 17 rfl rfl)
theorem dX3_veneer_64 : decode cX3_veneer 64 = .ok (.iastore, 1) := dk_79 (dk_at dksX3_veneer_2 18 rfl rfl)
theorem dX3_veneer_65 : decode cX3_veneer 65 = .ok (.aload_n 0, 1) := dk_42 (dk_at dksX3_veneer_2 19 rfl rfl)
theorem dX3_veneer_66 : decode cX3_veneer 66 = .ok (.getfield 90, 3) := dk_180 0 90 (dk_at dksX3_veneer_2 20 rfl rfl)
theorem dX3_veneer_69 : decode cX3_veneer 69 = .ok (.iload_n 1, 1) := dk_27 (dk_at dksX3_veneer_2 23 rfl rfl)
theorem dX3_veneer_70 : decode cX3_veneer 70 = .ok (.iload 4, 2) := dk_21 4 (dk_at dksX3_veneer_3 0 rfl rfl)
theorem dX3_veneer_72 : decode cX3_veneer 72 = .ok (.iastore, 1) := dk_79 (dk_at dksX3_veneer_3 2 rfl rfl)
theorem dX3_veneer_73 : decode cX3_veneer 73 = .ok (.aload_n 0, 1) := dk_42 (dk_at dksX3_veneer_3 3 rfl rfl)
theorem dX3_veneer_74 : decode cX3_veneer 74 = .ok (.getfield 96, 3) := dk_180 0 96 (dk_at dksX3_veneer_3 4 rfl rfl)
theorem dX3_veneer_77 : decode cX3_veneer 77 = .ok (.iload_n 1, 1) := dk_27 (dk_at dksX3_veneer_3 7 rfl rfl)
theorem dX3_veneer_78 : decode cX3_veneer 78 = .ok (.iload 5, 2) := dk_21 5 (dk_at dksX3_veneer_3 8 rfl rfl)
theorem dX3_veneer_80 : decode cX3_veneer 80 = .ok (.bastore, 1) := dk_84 (dk_at dksX3_veneer_3 10 rfl rfl)
theorem dX3_veneer_81 : decode cX3_veneer 81 = .ok (.iconst 1, 1) := dk_4 (dk_at dksX3_veneer_3 11 rfl rfl)
theorem dX3_veneer_82 : decode cX3_veneer 82 = .ok (.ireturn, 1) := dk_172 (dk_at dksX3_veneer_3 12 rfl rfl)
abbrev cX3_board : ByteArray := prog_16_method_46_code
def yX3_board : MethodName := ⟨RX3, "board", "(III)I"⟩
def dkwX3_board_1 : List UInt8 := [29, 182, 1, 53, 172]
abbrev dktX3_board_1 : List UInt8 := dkwX3_board_1 ++ []
def dkwX3_board_0 : List UInt8 := [29, 155, 0, 17, 29, 5, 163, 0, 12, 42, 27, 28, 182, 1, 50, 154, 0, 7, 2, 167, 0, 9, 42, 27]
abbrev dktX3_board_0 : List UInt8 := dkwX3_board_0 ++ dktX3_board_1
theorem dksX3_board_0 : cX3_board.data.toList.drop 0 = dktX3_board_0 := by decide +kernel
theorem dksX3_board_1 : cX3_board.data.toList.drop 24 = dktX3_board_1 := dk_seg dksX3_board_0 24 rfl rfl
theorem dX3_board_0 : decode cX3_board 0 = .ok (.iload_n 3, 1) := dk_29 (dk_at dksX3_board_0 0 rfl rfl)
theorem dX3_board_1 : decode cX3_board 1 = .ok (.ifCond .lt 17, 3) := dk_155 0 17 (dk_at dksX3_board_0 1 rfl rfl)
theorem dX3_board_4 : decode cX3_board 4 = .ok (.iload_n 3, 1) := dk_29 (dk_at dksX3_board_0 4 rfl rfl)
theorem dX3_board_5 : decode cX3_board 5 = .ok (.iconst 2, 1) := dk_5 (dk_at dksX3_board_0 5 rfl rfl)
theorem dX3_board_6 : decode cX3_board 6 = .ok (.if_icmp .gt 12, 3) := dk_163 0 12 (dk_at dksX3_board_0 6 rfl rfl)
theorem dX3_board_9 : decode cX3_board 9 = .ok (.aload_n 0, 1) := dk_42 (dk_at dksX3_board_0 9 rfl rfl)
theorem dX3_board_10 : decode cX3_board 10 = .ok (.iload_n 1, 1) := dk_27 (dk_at dksX3_board_0 10 rfl rfl)
theorem dX3_board_11 : decode cX3_board 11 = .ok (.iload_n 2, 1) := dk_28 (dk_at dksX3_board_0 11 rfl rfl)
theorem dX3_board_12 : decode cX3_board 12 = .ok (.invokevirtual 306, 3) := dk_182 1 50 (dk_at dksX3_board_0 12 rfl rfl)
theorem dX3_board_15 : decode cX3_board 15 = .ok (.ifCond .ne 7, 3) := dk_154 0 7 (dk_at dksX3_board_0 15 rfl rfl)
theorem dX3_board_18 : decode cX3_board 18 = .ok (.iconst (-1), 1) := dk_2 (dk_at dksX3_board_0 18 rfl rfl)
theorem dX3_board_19 : decode cX3_board 19 = .ok (.goto 9, 3) := dk_167 0 9 (dk_at dksX3_board_0 19 rfl rfl)
theorem dX3_board_22 : decode cX3_board 22 = .ok (.aload_n 0, 1) := dk_42 (dk_at dksX3_board_0 22 rfl rfl)
theorem dX3_board_23 : decode cX3_board 23 = .ok (.iload_n 1, 1) := dk_27 (dk_at dksX3_board_0 23 rfl rfl)
theorem dX3_board_24 : decode cX3_board 24 = .ok (.iload_n 3, 1) := dk_29 (dk_at dksX3_board_1 0 rfl rfl)
theorem dX3_board_25 : decode cX3_board 25 = .ok (.invokevirtual 309, 3) := dk_182 1 53 (dk_at dksX3_board_1 1 rfl rfl)
theorem dX3_board_28 : decode cX3_board 28 = .ok (.ireturn, 1) := dk_172 (dk_at dksX3_board_1 4 rfl rfl)
abbrev cX3_lays : ByteArray := prog_16_method_44_code
def yX3_lays : MethodName := ⟨RX3, "lays", "(II)Z"⟩
def dkwX3_lays_3 : List UInt8 := [3, 62, 132, 4, 1, 167, 255, 209, 29, 172]
abbrev dktX3_lays_3 : List UInt8 := dkwX3_lays_3 ++ []
def dkwX3_lays_2 : List UInt8 := [16, 7, 126, 79, 29, 153, 0, 19, 42, 180, 0, 93, 21, 4, 46, 16, 6, 162, 0, 7, 4, 167, 0, 4]
abbrev dktX3_lays_2 : List UInt8 := dkwX3_lays_2 ++ dktX3_lays_3
def dkwX3_lays_1 : List UInt8 := [172, 4, 62, 3, 54, 4, 21, 4, 27, 162, 0, 47, 42, 180, 0, 93, 21, 4, 28, 6, 21, 4, 104, 122]
abbrev dktX3_lays_1 : List UInt8 := dkwX3_lays_1 ++ dktX3_lays_2
def dkwX3_lays_0 : List UInt8 := [27, 4, 161, 0, 21, 27, 16, 9, 163, 0, 15, 28, 155, 0, 11, 28, 6, 27, 104, 122, 153, 0, 5, 3]
abbrev dktX3_lays_0 : List UInt8 := dkwX3_lays_0 ++ dktX3_lays_1
theorem dksX3_lays_0 : cX3_lays.data.toList.drop 0 = dktX3_lays_0 := by decide +kernel
theorem dksX3_lays_1 : cX3_lays.data.toList.drop 24 = dktX3_lays_1 := dk_seg dksX3_lays_0 24 rfl rfl
theorem dksX3_lays_2 : cX3_lays.data.toList.drop 48 = dktX3_lays_2 := dk_seg dksX3_lays_1 24 rfl rfl
theorem dksX3_lays_3 : cX3_lays.data.toList.drop 72 = dktX3_lays_3 := dk_seg dksX3_lays_2 24 rfl rfl
theorem dX3_lays_0 : decode cX3_lays 0 = .ok (.iload_n 1, 1) := dk_27 (dk_at dksX3_lays_0 0 rfl rfl)
theorem dX3_lays_1 : decode cX3_lays 1 = .ok (.iconst 1, 1) := dk_4 (dk_at dksX3_lays_0 1 rfl rfl)
theorem dX3_lays_2 : decode cX3_lays 2 = .ok (.if_icmp .lt 21, 3) := dk_161 0 21 (dk_at dksX3_lays_0 2 rfl rfl)
theorem dX3_lays_5 : decode cX3_lays 5 = .ok (.iload_n 1, 1) := dk_27 (dk_at dksX3_lays_0 5 rfl rfl)
theorem dX3_lays_6 : decode cX3_lays 6 = .ok (.bipush 9, 2) := dk_16 9 (dk_at dksX3_lays_0 6 rfl rfl)
theorem dX3_lays_8 : decode cX3_lays 8 = .ok (.if_icmp .gt 15, 3) := dk_163 0 15 (dk_at dksX3_lays_0 8 rfl rfl)
theorem dX3_lays_11 : decode cX3_lays 11 = .ok (.iload_n 2, 1) := dk_28 (dk_at dksX3_lays_0 11 rfl rfl)
theorem dX3_lays_12 : decode cX3_lays 12 = .ok (.ifCond .lt 11, 3) := dk_155 0 11 (dk_at dksX3_lays_0 12 rfl rfl)
theorem dX3_lays_15 : decode cX3_lays 15 = .ok (.iload_n 2, 1) := dk_28 (dk_at dksX3_lays_0 15 rfl rfl)
theorem dX3_lays_16 : decode cX3_lays 16 = .ok (.iconst 3, 1) := dk_6 (dk_at dksX3_lays_0 16 rfl rfl)
theorem dX3_lays_17 : decode cX3_lays 17 = .ok (.iload_n 1, 1) := dk_27 (dk_at dksX3_lays_0 17 rfl rfl)
theorem dX3_lays_18 : decode cX3_lays 18 = .ok (.imul, 1) := dk_104 (dk_at dksX3_lays_0 18 rfl rfl)
theorem dX3_lays_19 : decode cX3_lays 19 = .ok (.ishr, 1) := dk_122 (dk_at dksX3_lays_0 19 rfl rfl)
theorem dX3_lays_20 : decode cX3_lays 20 = .ok (.ifCond .eq 5, 3) := dk_153 0 5 (dk_at dksX3_lays_0 20 rfl rfl)
theorem dX3_lays_23 : decode cX3_lays 23 = .ok (.iconst 0, 1) := dk_3 (dk_at dksX3_lays_0 23 rfl rfl)
theorem dX3_lays_24 : decode cX3_lays 24 = .ok (.ireturn, 1) := dk_172 (dk_at dksX3_lays_1 0 rfl rfl)
theorem dX3_lays_25 : decode cX3_lays 25 = .ok (.iconst 1, 1) := dk_4 (dk_at dksX3_lays_1 1 rfl rfl)
theorem dX3_lays_26 : decode cX3_lays 26 = .ok (.istore_n 3, 1) := dk_62 (dk_at dksX3_lays_1 2 rfl rfl)
theorem dX3_lays_27 : decode cX3_lays 27 = .ok (.iconst 0, 1) := dk_3 (dk_at dksX3_lays_1 3 rfl rfl)
theorem dX3_lays_28 : decode cX3_lays 28 = .ok (.istore 4, 2) := dk_54 4 (dk_at dksX3_lays_1 4 rfl rfl)
theorem dX3_lays_30 : decode cX3_lays 30 = .ok (.iload 4, 2) := dk_21 4 (dk_at dksX3_lays_1 6 rfl rfl)
theorem dX3_lays_32 : decode cX3_lays 32 = .ok (.iload_n 1, 1) := dk_27 (dk_at dksX3_lays_1 8 rfl rfl)
theorem dX3_lays_33 : decode cX3_lays 33 = .ok (.if_icmp .ge 47, 3) := dk_162 0 47 (dk_at dksX3_lays_1 9 rfl rfl)
theorem dX3_lays_36 : decode cX3_lays 36 = .ok (.aload_n 0, 1) := dk_42 (dk_at dksX3_lays_1 12 rfl rfl)
theorem dX3_lays_37 : decode cX3_lays 37 = .ok (.getfield 93, 3) := dk_180 0 93 (dk_at dksX3_lays_1 13 rfl rfl)
theorem dX3_lays_40 : decode cX3_lays 40 = .ok (.iload 4, 2) := dk_21 4 (dk_at dksX3_lays_1 16 rfl rfl)
theorem dX3_lays_42 : decode cX3_lays 42 = .ok (.iload_n 2, 1) := dk_28 (dk_at dksX3_lays_1 18 rfl rfl)
theorem dX3_lays_43 : decode cX3_lays 43 = .ok (.iconst 3, 1) := dk_6 (dk_at dksX3_lays_1 19 rfl rfl)
theorem dX3_lays_44 : decode cX3_lays 44 = .ok (.iload 4, 2) := dk_21 4 (dk_at dksX3_lays_1 20 rfl rfl)
theorem dX3_lays_46 : decode cX3_lays 46 = .ok (.imul, 1) := dk_104 (dk_at dksX3_lays_1 22 rfl rfl)
theorem dX3_lays_47 : decode cX3_lays 47 = .ok (.ishr, 1) := dk_122 (dk_at dksX3_lays_1 23 rfl rfl)
theorem dX3_lays_48 : decode cX3_lays 48 = .ok (.bipush 7, 2) := dk_16 7 (dk_at dksX3_lays_2 0 rfl rfl)
theorem dX3_lays_50 : decode cX3_lays 50 = .ok (.iand, 1) := dk_126 (dk_at dksX3_lays_2 2 rfl rfl)
theorem dX3_lays_51 : decode cX3_lays 51 = .ok (.iastore, 1) := dk_79 (dk_at dksX3_lays_2 3 rfl rfl)
theorem dX3_lays_52 : decode cX3_lays 52 = .ok (.iload_n 3, 1) := dk_29 (dk_at dksX3_lays_2 4 rfl rfl)
theorem dX3_lays_53 : decode cX3_lays 53 = .ok (.ifCond .eq 19, 3) := dk_153 0 19 (dk_at dksX3_lays_2 5 rfl rfl)
theorem dX3_lays_56 : decode cX3_lays 56 = .ok (.aload_n 0, 1) := dk_42 (dk_at dksX3_lays_2 8 rfl rfl)
theorem dX3_lays_57 : decode cX3_lays 57 = .ok (.getfield 93, 3) := dk_180 0 93 (dk_at dksX3_lays_2 9 rfl rfl)
theorem dX3_lays_60 : decode cX3_lays 60 = .ok (.iload 4, 2) := dk_21 4 (dk_at dksX3_lays_2 12 rfl rfl)
theorem dX3_lays_62 : decode cX3_lays 62 = .ok (.iaload, 1) := dk_46 (dk_at dksX3_lays_2 14 rfl rfl)
theorem dX3_lays_63 : decode cX3_lays 63 = .ok (.bipush 6, 2) := dk_16 6 (dk_at dksX3_lays_2 15 rfl rfl)
theorem dX3_lays_65 : decode cX3_lays 65 = .ok (.if_icmp .ge 7, 3) := dk_162 0 7 (dk_at dksX3_lays_2 17 rfl rfl)
theorem dX3_lays_68 : decode cX3_lays 68 = .ok (.iconst 1, 1) := dk_4 (dk_at dksX3_lays_2 20 rfl rfl)
theorem dX3_lays_69 : decode cX3_lays 69 = .ok (.goto 4, 3) := dk_167 0 4 (dk_at dksX3_lays_2 21 rfl rfl)
theorem dX3_lays_72 : decode cX3_lays 72 = .ok (.iconst 0, 1) := dk_3 (dk_at dksX3_lays_3 0 rfl rfl)
theorem dX3_lays_73 : decode cX3_lays 73 = .ok (.istore_n 3, 1) := dk_62 (dk_at dksX3_lays_3 1 rfl rfl)
theorem dX3_lays_74 : decode cX3_lays 74 = .ok (.iinc 4 1, 3) := dk_132 4 1 (dk_at dksX3_lays_3 2 rfl rfl)
theorem dX3_lays_77 : decode cX3_lays 77 = .ok (.goto (-47), 3) := dk_167 255 209 (dk_at dksX3_lays_3 5 rfl rfl)
theorem dX3_lays_80 : decode cX3_lays 80 = .ok (.iload_n 3, 1) := dk_29 (dk_at dksX3_lays_3 8 rfl rfl)
theorem dX3_lays_81 : decode cX3_lays 81 = .ok (.ireturn, 1) := dk_172 (dk_at dksX3_lays_3 9 rfl rfl)
abbrev cX3_sum : ByteArray := prog_16_method_45_code
def yX3_sum : MethodName := ⟨RX3, "sum", "(II)I"⟩
def dkwX3_sum_3 : List UInt8 := [180, 0, 93, 21, 4, 46, 46, 96, 96, 62, 132, 4, 1, 167, 255, 179, 29, 172]
abbrev dktX3_sum_3 : List UInt8 := dkwX3_sum_3 ++ []
def dkwX3_sum_2 : List UInt8 := [154, 0, 19, 42, 180, 0, 87, 42, 180, 0, 93, 21, 4, 46, 46, 116, 167, 0, 15, 42, 180, 0, 87, 42]
abbrev dktX3_sum_2 : List UInt8 := dkwX3_sum_2 ++ dktX3_sum_3
def dkwX3_sum_1 : List UInt8 := [180, 0, 93, 21, 4, 46, 46, 167, 0, 48, 42, 180, 0, 84, 42, 180, 0, 93, 21, 4, 46, 46, 28]
abbrev dktX3_sum_1 : List UInt8 := dkwX3_sum_1 ++ dktX3_sum_2
def dkwX3_sum_0 : List UInt8 := [3, 62, 3, 54, 4, 21, 4, 27, 162, 0, 77, 29, 28, 5, 160, 0, 18, 42, 180, 0, 90, 42]
abbrev dktX3_sum_0 : List UInt8 := dkwX3_sum_0 ++ dktX3_sum_1
theorem dksX3_sum_0 : cX3_sum.data.toList.drop 0 = dktX3_sum_0 := by decide +kernel
theorem dksX3_sum_1 : cX3_sum.data.toList.drop 22 = dktX3_sum_1 := dk_seg dksX3_sum_0 22 rfl rfl
theorem dksX3_sum_2 : cX3_sum.data.toList.drop 45 = dktX3_sum_2 := dk_seg dksX3_sum_1 23 rfl rfl
theorem dksX3_sum_3 : cX3_sum.data.toList.drop 69 = dktX3_sum_3 := dk_seg dksX3_sum_2 24 rfl rfl
theorem dX3_sum_0 : decode cX3_sum 0 = .ok (.iconst 0, 1) := dk_3 (dk_at dksX3_sum_0 0 rfl rfl)
theorem dX3_sum_1 : decode cX3_sum 1 = .ok (.istore_n 3, 1) := dk_62 (dk_at dksX3_sum_0 1 rfl rfl)
theorem dX3_sum_2 : decode cX3_sum 2 = .ok (.iconst 0, 1) := dk_3 (dk_at dksX3_sum_0 2 rfl rfl)
theorem dX3_sum_3 : decode cX3_sum 3 = .ok (.istore 4, 2) := dk_54 4 (dk_at dksX3_sum_0 3 rfl rfl)
theorem dX3_sum_5 : decode cX3_sum 5 = .ok (.iload 4, 2) := dk_21 4 (dk_at dksX3_sum_0 5 rfl rfl)
theorem dX3_sum_7 : decode cX3_sum 7 = .ok (.iload_n 1, 1) := dk_27 (dk_at dksX3_sum_0 7 rfl rfl)
theorem dX3_sum_8 : decode cX3_sum 8 = .ok (.if_icmp .ge 77, 3) := dk_162 0 77 (dk_at dksX3_sum_0 8 rfl rfl)
theorem dX3_sum_11 : decode cX3_sum 11 = .ok (.iload_n 3, 1) := dk_29 (dk_at dksX3_sum_0 11 rfl rfl)
theorem dX3_sum_12 : decode cX3_sum 12 = .ok (.iload_n 2, 1) := dk_28 (dk_at dksX3_sum_0 12 rfl rfl)
theorem dX3_sum_13 : decode cX3_sum 13 = .ok (.iconst 2, 1) := dk_5 (dk_at dksX3_sum_0 13 rfl rfl)
theorem dX3_sum_14 : decode cX3_sum 14 = .ok (.if_icmp .ne 18, 3) := dk_160 0 18 (dk_at dksX3_sum_0 14 rfl rfl)
theorem dX3_sum_17 : decode cX3_sum 17 = .ok (.aload_n 0, 1) := dk_42 (dk_at dksX3_sum_0 17 rfl rfl)
theorem dX3_sum_18 : decode cX3_sum 18 = .ok (.getfield 90, 3) := dk_180 0 90 (dk_at dksX3_sum_0 18 rfl rfl)
theorem dX3_sum_21 : decode cX3_sum 21 = .ok (.aload_n 0, 1) := dk_42 (dk_at dksX3_sum_0 21 rfl rfl)
theorem dX3_sum_22 : decode cX3_sum 22 = .ok (.getfield 93, 3) := dk_180 0 93 (dk_at dksX3_sum_1 0 rfl rfl)
theorem dX3_sum_25 : decode cX3_sum 25 = .ok (.iload 4, 2) := dk_21 4 (dk_at dksX3_sum_1 3 rfl rfl)
theorem dX3_sum_27 : decode cX3_sum 27 = .ok (.iaload, 1) := dk_46 (dk_at dksX3_sum_1 5 rfl rfl)
theorem dX3_sum_28 : decode cX3_sum 28 = .ok (.iaload, 1) := dk_46 (dk_at dksX3_sum_1 6 rfl rfl)
theorem dX3_sum_29 : decode cX3_sum 29 = .ok (.goto 48, 3) := dk_167 0 48 (dk_at dksX3_sum_1 7 rfl rfl)
theorem dX3_sum_32 : decode cX3_sum 32 = .ok (.aload_n 0, 1) := dk_42 (dk_at dksX3_sum_1 10 rfl rfl)
theorem dX3_sum_33 : decode cX3_sum 33 = .ok (.getfield 84, 3) := dk_180 0 84 (dk_at dksX3_sum_1 11 rfl rfl)
theorem dX3_sum_36 : decode cX3_sum 36 = .ok (.aload_n 0, 1) := dk_42 (dk_at dksX3_sum_1 14 rfl rfl)
theorem dX3_sum_37 : decode cX3_sum 37 = .ok (.getfield 93, 3) := dk_180 0 93 (dk_at dksX3_sum_1 15 rfl rfl)
theorem dX3_sum_40 : decode cX3_sum 40 = .ok (.iload 4, 2) := dk_21 4 (dk_at dksX3_sum_1 18 rfl rfl)
theorem dX3_sum_42 : decode cX3_sum 42 = .ok (.iaload, 1) := dk_46 (dk_at dksX3_sum_1 20 rfl rfl)
theorem dX3_sum_43 : decode cX3_sum 43 = .ok (.iaload, 1) := dk_46 (dk_at dksX3_sum_1 21 rfl rfl)
theorem dX3_sum_44 : decode cX3_sum 44 = .ok (.iload_n 2, 1) := dk_28 (dk_at dksX3_sum_1 22 rfl rfl)
theorem dX3_sum_45 : decode cX3_sum 45 = .ok (.ifCond .ne 19, 3) := dk_154 0 19 (dk_at dksX3_sum_2 0 rfl rfl)
theorem dX3_sum_48 : decode cX3_sum 48 = .ok (.aload_n 0, 1) := dk_42 (dk_at dksX3_sum_2 3 rfl rfl)
theorem dX3_sum_49 : decode cX3_sum 49 = .ok (.getfield 87, 3) := dk_180 0 87 (dk_at dksX3_sum_2 4 rfl rfl)
theorem dX3_sum_52 : decode cX3_sum 52 = .ok (.aload_n 0, 1) := dk_42 (dk_at dksX3_sum_2 7 rfl rfl)
theorem dX3_sum_53 : decode cX3_sum 53 = .ok (.getfield 93, 3) := dk_180 0 93 (dk_at dksX3_sum_2 8 rfl rfl)
theorem dX3_sum_56 : decode cX3_sum 56 = .ok (.iload 4, 2) := dk_21 4 (dk_at dksX3_sum_2 11 rfl rfl)
theorem dX3_sum_58 : decode cX3_sum 58 = .ok (.iaload, 1) := dk_46 (dk_at dksX3_sum_2 13 rfl rfl)
theorem dX3_sum_59 : decode cX3_sum 59 = .ok (.iaload, 1) := dk_46 (dk_at dksX3_sum_2 14 rfl rfl)
theorem dX3_sum_60 : decode cX3_sum 60 = .ok (.ineg, 1) := dk_116 (dk_at dksX3_sum_2 15 rfl rfl)
theorem dX3_sum_61 : decode cX3_sum 61 = .ok (.goto 15, 3) := dk_167 0 15 (dk_at dksX3_sum_2 16 rfl rfl)
theorem dX3_sum_64 : decode cX3_sum 64 = .ok (.aload_n 0, 1) := dk_42 (dk_at dksX3_sum_2 19 rfl rfl)
theorem dX3_sum_65 : decode cX3_sum 65 = .ok (.getfield 87, 3) := dk_180 0 87 (dk_at dksX3_sum_2 20 rfl rfl)
theorem dX3_sum_68 : decode cX3_sum 68 = .ok (.aload_n 0, 1) := dk_42 (dk_at dksX3_sum_2 23 rfl rfl)
theorem dX3_sum_69 : decode cX3_sum 69 = .ok (.getfield 93, 3) := dk_180 0 93 (dk_at dksX3_sum_3 0 rfl rfl)
theorem dX3_sum_72 : decode cX3_sum 72 = .ok (.iload 4, 2) := dk_21 4 (dk_at dksX3_sum_3 3 rfl rfl)
theorem dX3_sum_74 : decode cX3_sum 74 = .ok (.iaload, 1) := dk_46 (dk_at dksX3_sum_3 5 rfl rfl)
theorem dX3_sum_75 : decode cX3_sum 75 = .ok (.iaload, 1) := dk_46 (dk_at dksX3_sum_3 6 rfl rfl)
theorem dX3_sum_76 : decode cX3_sum 76 = .ok (.iadd, 1) := dk_96 (dk_at dksX3_sum_3 7 rfl rfl)
theorem dX3_sum_77 : decode cX3_sum 77 = .ok (.iadd, 1) := dk_96 (dk_at dksX3_sum_3 8 rfl rfl)
theorem dX3_sum_78 : decode cX3_sum 78 = .ok (.istore_n 3, 1) := dk_62 (dk_at dksX3_sum_3 9 rfl rfl)
theorem dX3_sum_79 : decode cX3_sum 79 = .ok (.iinc 4 1, 3) := dk_132 4 1 (dk_at dksX3_sum_3 10 rfl rfl)
theorem dX3_sum_82 : decode cX3_sum 82 = .ok (.goto (-77), 3) := dk_167 255 179 (dk_at dksX3_sum_3 13 rfl rfl)
theorem dX3_sum_85 : decode cX3_sum 85 = .ok (.iload_n 3, 1) := dk_29 (dk_at dksX3_sum_3 16 rfl rfl)
theorem dX3_sum_86 : decode cX3_sum 86 = .ok (.ireturn, 1) := dk_172 (dk_at dksX3_sum_3 17 rfl rfl)
abbrev cX3_warp : ByteArray := prog_16_method_47_code
def yX3_warp : MethodName := ⟨RX3, "warp", "(II)I"⟩
def dkwX3_warp_5 : List UInt8 := [21, 4, 46, 46, 104, 21, 5, 104, 96, 62, 132, 4, 1, 167, 255, 147, 29, 172]
abbrev dktX3_warp_5 : List UInt8 := dkwX3_warp_5 ++ []
def dkwX3_warp_4 : List UInt8 := [167, 255, 196, 29, 21, 4, 5, 112, 154, 0, 7, 4, 167, 0, 4, 2, 42, 180, 0, 84, 42, 180, 0, 93]
abbrev dktX3_warp_4 : List UInt8 := dkwX3_warp_4 ++ dktX3_warp_5
def dkwX3_warp_3 : List UInt8 := [180, 0, 84, 42, 180, 0, 93, 21, 6, 46, 46, 116, 167, 0, 4, 3, 96, 54, 5, 132, 6, 1]
abbrev dktX3_warp_3 : List UInt8 := dkwX3_warp_3 ++ dktX3_warp_4
def dkwX3_warp_2 : List UInt8 := [180, 0, 84, 42, 180, 0, 93, 21, 6, 46, 46, 167, 0, 27, 21, 6, 21, 4, 164, 0, 19, 42]
abbrev dktX3_warp_2 : List UInt8 := dkwX3_warp_2 ++ dktX3_warp_3
def dkwX3_warp_1 : List UInt8 := [3, 54, 5, 3, 54, 6, 21, 6, 27, 162, 0, 60, 21, 5, 21, 6, 21, 4, 162, 0, 18, 42]
abbrev dktX3_warp_1 : List UInt8 := dkwX3_warp_1 ++ dktX3_warp_2
def dkwX3_warp_0 : List UInt8 := [42, 27, 28, 182, 1, 50, 154, 0, 7, 19, 1, 56, 172, 3, 62, 3, 54, 4, 21, 4, 27, 162, 0, 109]
abbrev dktX3_warp_0 : List UInt8 := dkwX3_warp_0 ++ dktX3_warp_1
theorem dksX3_warp_0 : cX3_warp.data.toList.drop 0 = dktX3_warp_0 := by decide +kernel
theorem dksX3_warp_1 : cX3_warp.data.toList.drop 24 = dktX3_warp_1 := dk_seg dksX3_warp_0 24 rfl rfl
theorem dksX3_warp_2 : cX3_warp.data.toList.drop 46 = dktX3_warp_2 := dk_seg dksX3_warp_1 22 rfl rfl
theorem dksX3_warp_3 : cX3_warp.data.toList.drop 68 = dktX3_warp_3 := dk_seg dksX3_warp_2 22 rfl rfl
theorem dksX3_warp_4 : cX3_warp.data.toList.drop 90 = dktX3_warp_4 := dk_seg dksX3_warp_3 22 rfl rfl
theorem dksX3_warp_5 : cX3_warp.data.toList.drop 114 = dktX3_warp_5 := dk_seg dksX3_warp_4 24 rfl rfl
theorem dX3_warp_0 : decode cX3_warp 0 = .ok (.aload_n 0, 1) := dk_42 (dk_at dksX3_warp_0 0 rfl rfl)
theorem dX3_warp_1 : decode cX3_warp 1 = .ok (.iload_n 1, 1) := dk_27 (dk_at dksX3_warp_0 1 rfl rfl)
theorem dX3_warp_2 : decode cX3_warp 2 = .ok (.iload_n 2, 1) := dk_28 (dk_at dksX3_warp_0 2 rfl rfl)
theorem dX3_warp_3 : decode cX3_warp 3 = .ok (.invokevirtual 306, 3) := dk_182 1 50 (dk_at dksX3_warp_0 3 rfl rfl)
theorem dX3_warp_6 : decode cX3_warp 6 = .ok (.ifCond .ne 7, 3) := dk_154 0 7 (dk_at dksX3_warp_0 6 rfl rfl)
theorem dX3_warp_9 : decode cX3_warp 9 = .ok (.ldc_w 312, 3) := dk_19 1 56 (dk_at dksX3_warp_0 9 rfl rfl)
theorem dX3_warp_12 : decode cX3_warp 12 = .ok (.ireturn, 1) := dk_172 (dk_at dksX3_warp_0 12 rfl rfl)
theorem dX3_warp_13 : decode cX3_warp 13 = .ok (.iconst 0, 1) := dk_3 (dk_at dksX3_warp_0 13 rfl rfl)
theorem dX3_warp_14 : decode cX3_warp 14 = .ok (.istore_n 3, 1) := dk_62 (dk_at dksX3_warp_0 14 rfl rfl)
theorem dX3_warp_15 : decode cX3_warp 15 = .ok (.iconst 0, 1) := dk_3 (dk_at dksX3_warp_0 15 rfl rfl)
theorem dX3_warp_16 : decode cX3_warp 16 = .ok (.istore 4, 2) := dk_54 4 (dk_at dksX3_warp_0 16 rfl rfl)
theorem dX3_warp_18 : decode cX3_warp 18 = .ok (.iload 4, 2) := dk_21 4 (dk_at dksX3_warp_0 18 rfl rfl)
theorem dX3_warp_20 : decode cX3_warp 20 = .ok (.iload_n 1, 1) := dk_27 (dk_at dksX3_warp_0 20 rfl rfl)
theorem dX3_warp_21 : decode cX3_warp 21 = .ok (.if_icmp .ge 109, 3) := dk_162 0 109 (dk_at dksX3_warp_0 21 rfl rfl)
theorem dX3_warp_24 : decode cX3_warp 24 = .ok (.iconst 0, 1) := dk_3 (dk_at dksX3_warp_1 0 rfl rfl)
theorem dX3_warp_25 : decode cX3_warp 25 = .ok (.istore 5, 2) := dk_54 5 (dk_at dksX3_warp_1 1 rfl rfl)
theorem dX3_warp_27 : decode cX3_warp 27 = .ok (.iconst 0, 1) := dk_3 (dk_at dksX3_warp_1 3 rfl rfl)
theorem dX3_warp_28 : decode cX3_warp 28 = .ok (.istore 6, 2) := dk_54 6 (dk_at dksX3_warp_1 4 rfl rfl)
theorem dX3_warp_30 : decode cX3_warp 30 = .ok (.iload 6, 2) := dk_21 6 (dk_at dksX3_warp_1 6 rfl rfl)
theorem dX3_warp_32 : decode cX3_warp 32 = .ok (.iload_n 1, 1) := dk_27 (dk_at dksX3_warp_1 8 rfl rfl)
theorem dX3_warp_33 : decode cX3_warp 33 = .ok (.if_icmp .ge 60, 3) := dk_162 0 60 (dk_at dksX3_warp_1 9 rfl rfl)
theorem dX3_warp_36 : decode cX3_warp 36 = .ok (.iload 5, 2) := dk_21 5 (dk_at dksX3_warp_1 12 rfl rfl)
theorem dX3_warp_38 : decode cX3_warp 38 = .ok (.iload 6, 2) := dk_21 6 (dk_at dksX3_warp_1 14 rfl rfl)
theorem dX3_warp_40 : decode cX3_warp 40 = .ok (.iload 4, 2) := dk_21 4 (dk_at dksX3_warp_1 16 rfl rfl)
theorem dX3_warp_42 : decode cX3_warp 42 = .ok (.if_icmp .ge 18, 3) := dk_162 0 18 (dk_at dksX3_warp_1 18 rfl rfl)
theorem dX3_warp_45 : decode cX3_warp 45 = .ok (.aload_n 0, 1) := dk_42 (dk_at dksX3_warp_1 21 rfl rfl)
theorem dX3_warp_46 : decode cX3_warp 46 = .ok (.getfield 84, 3) := dk_180 0 84 (dk_at dksX3_warp_2 0 rfl rfl)
theorem dX3_warp_49 : decode cX3_warp 49 = .ok (.aload_n 0, 1) := dk_42 (dk_at dksX3_warp_2 3 rfl rfl)
theorem dX3_warp_50 : decode cX3_warp 50 = .ok (.getfield 93, 3) := dk_180 0 93 (dk_at dksX3_warp_2 4 rfl rfl)
theorem dX3_warp_53 : decode cX3_warp 53 = .ok (.iload 6, 2) := dk_21 6 (dk_at dksX3_warp_2 7 rfl rfl)
theorem dX3_warp_55 : decode cX3_warp 55 = .ok (.iaload, 1) := dk_46 (dk_at dksX3_warp_2 9 rfl rfl)
theorem dX3_warp_56 : decode cX3_warp 56 = .ok (.iaload, 1) := dk_46 (dk_at dksX3_warp_2 10 rfl rfl)
theorem dX3_warp_57 : decode cX3_warp 57 = .ok (.goto 27, 3) := dk_167 0 27 (dk_at dksX3_warp_2 11 rfl rfl)
theorem dX3_warp_60 : decode cX3_warp 60 = .ok (.iload 6, 2) := dk_21 6 (dk_at dksX3_warp_2 14 rfl rfl)
theorem dX3_warp_62 : decode cX3_warp 62 = .ok (.iload 4, 2) := dk_21 4 (dk_at dksX3_warp_2 16 rfl rfl)
theorem dX3_warp_64 : decode cX3_warp 64 = .ok (.if_icmp .le 19, 3) := dk_164 0 19 (dk_at dksX3_warp_2 18 rfl rfl)
theorem dX3_warp_67 : decode cX3_warp 67 = .ok (.aload_n 0, 1) := dk_42 (dk_at dksX3_warp_2 21 rfl rfl)
theorem dX3_warp_68 : decode cX3_warp 68 = .ok (.getfield 84, 3) := dk_180 0 84 (dk_at dksX3_warp_3 0 rfl rfl)
theorem dX3_warp_71 : decode cX3_warp 71 = .ok (.aload_n 0, 1) := dk_42 (dk_at dksX3_warp_3 3 rfl rfl)
theorem dX3_warp_72 : decode cX3_warp 72 = .ok (.getfield 93, 3) := dk_180 0 93 (dk_at dksX3_warp_3 4 rfl rfl)
theorem dX3_warp_75 : decode cX3_warp 75 = .ok (.iload 6, 2) := dk_21 6 (dk_at dksX3_warp_3 7 rfl rfl)
theorem dX3_warp_77 : decode cX3_warp 77 = .ok (.iaload, 1) := dk_46 (dk_at dksX3_warp_3 9 rfl rfl)
theorem dX3_warp_78 : decode cX3_warp 78 = .ok (.iaload, 1) := dk_46 (dk_at dksX3_warp_3 10 rfl rfl)
theorem dX3_warp_79 : decode cX3_warp 79 = .ok (.ineg, 1) := dk_116 (dk_at dksX3_warp_3 11 rfl rfl)
theorem dX3_warp_80 : decode cX3_warp 80 = .ok (.goto 4, 3) := dk_167 0 4 (dk_at dksX3_warp_3 12 rfl rfl)
theorem dX3_warp_83 : decode cX3_warp 83 = .ok (.iconst 0, 1) := dk_3 (dk_at dksX3_warp_3 15 rfl rfl)
theorem dX3_warp_84 : decode cX3_warp 84 = .ok (.iadd, 1) := dk_96 (dk_at dksX3_warp_3 16 rfl rfl)
theorem dX3_warp_85 : decode cX3_warp 85 = .ok (.istore 5, 2) := dk_54 5 (dk_at dksX3_warp_3 17 rfl rfl)
theorem dX3_warp_87 : decode cX3_warp 87 = .ok (.iinc 6 1, 3) := dk_132 6 1 (dk_at dksX3_warp_3 19 rfl rfl)
theorem dX3_warp_90 : decode cX3_warp 90 = .ok (.goto (-60), 3) := dk_167 255 196 (dk_at dksX3_warp_4 0 rfl rfl)
theorem dX3_warp_93 : decode cX3_warp 93 = .ok (.iload_n 3, 1) := dk_29 (dk_at dksX3_warp_4 3 rfl rfl)
theorem dX3_warp_94 : decode cX3_warp 94 = .ok (.iload 4, 2) := dk_21 4 (dk_at dksX3_warp_4 4 rfl rfl)
theorem dX3_warp_96 : decode cX3_warp 96 = .ok (.iconst 2, 1) := dk_5 (dk_at dksX3_warp_4 6 rfl rfl)
theorem dX3_warp_97 : decode cX3_warp 97 = .ok (.irem, 1) := dk_112 (dk_at dksX3_warp_4 7 rfl rfl)
theorem dX3_warp_98 : decode cX3_warp 98 = .ok (.ifCond .ne 7, 3) := dk_154 0 7 (dk_at dksX3_warp_4 8 rfl rfl)
theorem dX3_warp_101 : decode cX3_warp 101 = .ok (.iconst 1, 1) := dk_4 (dk_at dksX3_warp_4 11 rfl rfl)
theorem dX3_warp_102 : decode cX3_warp 102 = .ok (.goto 4, 3) := dk_167 0 4 (dk_at dksX3_warp_4 12 rfl rfl)
theorem dX3_warp_105 : decode cX3_warp 105 = .ok (.iconst (-1), 1) := dk_2 (dk_at dksX3_warp_4 15 rfl rfl)
theorem dX3_warp_106 : decode cX3_warp 106 = .ok (.aload_n 0, 1) := dk_42 (dk_at dksX3_warp_4 16 rfl rfl)
theorem dX3_warp_107 : decode cX3_warp 107 = .ok (.getfield 84, 3) := dk_180 0 84 (dk_at dksX3_warp_4 17 rfl rfl)
theorem dX3_warp_110 : decode cX3_warp 110 = .ok (.aload_n 0, 1) := dk_42 (dk_at dksX3_warp_4 20 rfl rfl)
theorem dX3_warp_111 : decode cX3_warp 111 = .ok (.getfield 93, 3) := dk_180 0 93 (dk_at dksX3_warp_4 21 rfl rfl)
theorem dX3_warp_114 : decode cX3_warp 114 = .ok (.iload 4, 2) := dk_21 4 (dk_at dksX3_warp_5 0 rfl rfl)
theorem dX3_warp_116 : decode cX3_warp 116 = .ok (.iaload, 1) := dk_46 (dk_at dksX3_warp_5 2 rfl rfl)
theorem dX3_warp_117 : decode cX3_warp 117 = .ok (.iaload, 1) := dk_46 (dk_at dksX3_warp_5 3 rfl rfl)
theorem dX3_warp_118 : decode cX3_warp 118 = .ok (.imul, 1) := dk_104 (dk_at dksX3_warp_5 4 rfl rfl)
theorem dX3_warp_119 : decode cX3_warp 119 = .ok (.iload 5, 2) := dk_21 5 (dk_at dksX3_warp_5 5 rfl rfl)
theorem dX3_warp_121 : decode cX3_warp 121 = .ok (.imul, 1) := dk_104 (dk_at dksX3_warp_5 7 rfl rfl)
theorem dX3_warp_122 : decode cX3_warp 122 = .ok (.iadd, 1) := dk_96 (dk_at dksX3_warp_5 8 rfl rfl)
theorem dX3_warp_123 : decode cX3_warp 123 = .ok (.istore_n 3, 1) := dk_62 (dk_at dksX3_warp_5 9 rfl rfl)
theorem dX3_warp_124 : decode cX3_warp 124 = .ok (.iinc 4 1, 3) := dk_132 4 1 (dk_at dksX3_warp_5 10 rfl rfl)
theorem dX3_warp_127 : decode cX3_warp 127 = .ok (.goto (-109), 3) := dk_167 255 147 (dk_at dksX3_warp_5 13 rfl rfl)
theorem dX3_warp_130 : decode cX3_warp 130 = .ok (.iload_n 3, 1) := dk_29 (dk_at dksX3_warp_5 16 rfl rfl)
theorem dX3_warp_131 : decode cX3_warp 131 = .ok (.ireturn, 1) := dk_172 (dk_at dksX3_warp_5 17 rfl rfl)
abbrev cX3_best : ByteArray := prog_16_method_48_code
def yX3_best : MethodName := ⟨RX3, "best", "(III)I"⟩
def dkwX3_best_9 : List UInt8 := [54, 6, 132, 11, 1, 167, 255, 230, 132, 8, 1, 167, 255, 94, 21, 6, 172]
abbrev dktX3_best_9 : List UInt8 := dkwX3_best_9 ++ []
def dkwX3_best_8 : List UInt8 := [54, 11, 21, 11, 27, 162, 0, 26, 21, 6, 42, 180, 0, 93, 21, 11, 46, 6, 21, 11, 104, 120, 128]
abbrev dktX3_best_8 : List UInt8 := dkwX3_best_8 ++ dktX3_best_9
def dkwX3_best_7 : List UInt8 := [21, 6, 155, 0, 13, 21, 10, 21, 7, 161, 0, 6, 167, 0, 42, 21, 10, 54, 7, 3, 54, 6, 3]
abbrev dktX3_best_7 : List UInt8 := dkwX3_best_7 ++ dktX3_best_8
def dkwX3_best_6 : List UInt8 := [51, 153, 0, 77, 42, 27, 3, 182, 1, 53, 28, 161, 0, 67, 42, 27, 4, 182, 1, 53, 29, 163, 0, 57]
abbrev dktX3_best_6 : List UInt8 := dkwX3_best_6 ++ dktX3_best_7
def dkwX3_best_5 : List UInt8 := [132, 10, 255, 167, 255, 213, 42, 27, 5, 182, 1, 53, 54, 10, 42, 180, 0, 96, 42, 180, 0, 93, 3, 46]
abbrev dktX3_best_5 : List UInt8 := dkwX3_best_5 ++ dktX3_best_6
def dkwX3_best_4 : List UInt8 := [79, 42, 180, 0, 93, 27, 4, 100, 21, 10, 100, 21, 9, 16, 6, 112, 79, 21, 9, 16, 6, 108, 54, 9]
abbrev dktX3_best_4 : List UInt8 := dkwX3_best_4 ++ dktX3_best_5
def dkwX3_best_3 : List UInt8 := [54, 9, 21, 4, 4, 100, 54, 10, 21, 10, 155, 0, 44, 42, 180, 0, 93, 21, 10, 21, 9, 16, 6, 112]
abbrev dktX3_best_3 : List UInt8 := dkwX3_best_3 ++ dktX3_best_4
def dkwX3_best_2 : List UInt8 := [132, 6, 1, 167, 255, 239, 2, 54, 6, 3, 54, 7, 3, 54, 8, 21, 8, 21, 5, 162, 0, 161, 21, 8]
abbrev dktX3_best_2 : List UInt8 := dkwX3_best_2 ++ dktX3_best_3
def dkwX3_best_1 : List UInt8 := [54, 4, 4, 54, 5, 3, 54, 6, 21, 6, 21, 4, 162, 0, 16, 21, 5, 16, 6, 104, 54, 5]
abbrev dktX3_best_1 : List UInt8 := dkwX3_best_1 ++ dktX3_best_2
def dkwX3_best_0 : List UInt8 := [27, 4, 161, 0, 15, 27, 16, 9, 163, 0, 9, 27, 5, 112, 154, 0, 5, 2, 172, 27, 4, 96, 5, 108]
abbrev dktX3_best_0 : List UInt8 := dkwX3_best_0 ++ dktX3_best_1
theorem dksX3_best_0 : cX3_best.data.toList.drop 0 = dktX3_best_0 := by decide +kernel
theorem dksX3_best_1 : cX3_best.data.toList.drop 24 = dktX3_best_1 := dk_seg dksX3_best_0 24 rfl rfl
theorem dksX3_best_2 : cX3_best.data.toList.drop 46 = dktX3_best_2 := dk_seg dksX3_best_1 22 rfl rfl
theorem dksX3_best_3 : cX3_best.data.toList.drop 70 = dktX3_best_3 := dk_seg dksX3_best_2 24 rfl rfl
theorem dksX3_best_4 : cX3_best.data.toList.drop 94 = dktX3_best_4 := dk_seg dksX3_best_3 24 rfl rfl
theorem dksX3_best_5 : cX3_best.data.toList.drop 118 = dktX3_best_5 := dk_seg dksX3_best_4 24 rfl rfl
theorem dksX3_best_6 : cX3_best.data.toList.drop 142 = dktX3_best_6 := dk_seg dksX3_best_5 24 rfl rfl
theorem dksX3_best_7 : cX3_best.data.toList.drop 166 = dktX3_best_7 := dk_seg dksX3_best_6 24 rfl rfl
theorem dksX3_best_8 : cX3_best.data.toList.drop 189 = dktX3_best_8 := dk_seg dksX3_best_7 23 rfl rfl
theorem dksX3_best_9 : cX3_best.data.toList.drop 212 = dktX3_best_9 := dk_seg dksX3_best_8 23 rfl rfl
theorem dX3_best_0 : decode cX3_best 0 = .ok (.iload_n 1, 1) := dk_27 (dk_at dksX3_best_0 0 rfl rfl)
theorem dX3_best_1 : decode cX3_best 1 = .ok (.iconst 1, 1) := dk_4 (dk_at dksX3_best_0 1 rfl rfl)
theorem dX3_best_2 : decode cX3_best 2 = .ok (.if_icmp .lt 15, 3) := dk_161 0 15 (dk_at dksX3_best_0 2 rfl rfl)
theorem dX3_best_5 : decode cX3_best 5 = .ok (.iload_n 1, 1) := dk_27 (dk_at dksX3_best_0 5 rfl rfl)
theorem dX3_best_6 : decode cX3_best 6 = .ok (.bipush 9, 2) := dk_16 9 (dk_at dksX3_best_0 6 rfl rfl)
theorem dX3_best_8 : decode cX3_best 8 = .ok (.if_icmp .gt 9, 3) := dk_163 0 9 (dk_at dksX3_best_0 8 rfl rfl)
theorem dX3_best_11 : decode cX3_best 11 = .ok (.iload_n 1, 1) := dk_27 (dk_at dksX3_best_0 11 rfl rfl)
theorem dX3_best_12 : decode cX3_best 12 = .ok (.iconst 2, 1) := dk_5 (dk_at dksX3_best_0 12 rfl rfl)
theorem dX3_best_13 : decode cX3_best 13 = .ok (.irem, 1) := dk_112 (dk_at dksX3_best_0 13 rfl rfl)
theorem dX3_best_14 : decode cX3_best 14 = .ok (.ifCond .ne 5, 3) := dk_154 0 5 (dk_at dksX3_best_0 14 rfl rfl)
theorem dX3_best_17 : decode cX3_best 17 = .ok (.iconst (-1), 1) := dk_2 (dk_at dksX3_best_0 17 rfl rfl)
theorem dX3_best_18 : decode cX3_best 18 = .ok (.ireturn, 1) := dk_172 (dk_at dksX3_best_0 18 rfl rfl)
theorem dX3_best_19 : decode cX3_best 19 = .ok (.iload_n 1, 1) := dk_27 (dk_at dksX3_best_0 19 rfl rfl)
theorem dX3_best_20 : decode cX3_best 20 = .ok (.iconst 1, 1) := dk_4 (dk_at dksX3_best_0 20 rfl rfl)
theorem dX3_best_21 : decode cX3_best 21 = .ok (.iadd, 1) := dk_96 (dk_at dksX3_best_0 21 rfl rfl)
theorem dX3_best_22 : decode cX3_best 22 = .ok (.iconst 2, 1) := dk_5 (dk_at dksX3_best_0 22 rfl rfl)
theorem dX3_best_23 : decode cX3_best 23 = .ok (.idiv, 1) := dk_108 (dk_at dksX3_best_0 23 rfl rfl)
theorem dX3_best_24 : decode cX3_best 24 = .ok (.istore 4, 2) := dk_54 4 (dk_at dksX3_best_1 0 rfl rfl)
theorem dX3_best_26 : decode cX3_best 26 = .ok (.iconst 1, 1) := dk_4 (dk_at dksX3_best_1 2 rfl rfl)
theorem dX3_best_27 : decode cX3_best 27 = .ok (.istore 5, 2) := dk_54 5 (dk_at dksX3_best_1 3 rfl rfl)
theorem dX3_best_29 : decode cX3_best 29 = .ok (.iconst 0, 1) := dk_3 (dk_at dksX3_best_1 5 rfl rfl)
theorem dX3_best_30 : decode cX3_best 30 = .ok (.istore 6, 2) := dk_54 6 (dk_at dksX3_best_1 6 rfl rfl)
theorem dX3_best_32 : decode cX3_best 32 = .ok (.iload 6, 2) := dk_21 6 (dk_at dksX3_best_1 8 rfl rfl)
theorem dX3_best_34 : decode cX3_best 34 = .ok (.iload 4, 2) := dk_21 4 (dk_at dksX3_best_1 10 rfl rfl)
theorem dX3_best_36 : decode cX3_best 36 = .ok (.if_icmp .ge 16, 3) := dk_162 0 16 (dk_at dksX3_best_1 12 rfl rfl)
theorem dX3_best_39 : decode cX3_best 39 = .ok (.iload 5, 2) := dk_21 5 (dk_at dksX3_best_1 15 rfl rfl)
theorem dX3_best_41 : decode cX3_best 41 = .ok (.bipush 6, 2) := dk_16 6 (dk_at dksX3_best_1 17 rfl rfl)
theorem dX3_best_43 : decode cX3_best 43 = .ok (.imul, 1) := dk_104 (dk_at dksX3_best_1 19 rfl rfl)
theorem dX3_best_44 : decode cX3_best 44 = .ok (.istore 5, 2) := dk_54 5 (dk_at dksX3_best_1 20 rfl rfl)
theorem dX3_best_46 : decode cX3_best 46 = .ok (.iinc 6 1, 3) := dk_132 6 1 (dk_at dksX3_best_2 0 rfl rfl)
theorem dX3_best_49 : decode cX3_best 49 = .ok (.goto (-17), 3) := dk_167 255 239 (dk_at dksX3_best_2 3 rfl rfl)
theorem dX3_best_52 : decode cX3_best 52 = .ok (.iconst (-1), 1) := dk_2 (dk_at dksX3_best_2 6 rfl rfl)
theorem dX3_best_53 : decode cX3_best 53 = .ok (.istore 6, 2) := dk_54 6 (dk_at dksX3_best_2 7 rfl rfl)
theorem dX3_best_55 : decode cX3_best 55 = .ok (.iconst 0, 1) := dk_3 (dk_at dksX3_best_2 9 rfl rfl)
theorem dX3_best_56 : decode cX3_best 56 = .ok (.istore 7, 2) := dk_54 7 (dk_at dksX3_best_2 10 rfl rfl)
theorem dX3_best_58 : decode cX3_best 58 = .ok (.iconst 0, 1) := dk_3 (dk_at dksX3_best_2 12 rfl rfl)
theorem dX3_best_59 : decode cX3_best 59 = .ok (.istore 8, 2) := dk_54 8 (dk_at dksX3_best_2 13 rfl rfl)
theorem dX3_best_61 : decode cX3_best 61 = .ok (.iload 8, 2) := dk_21 8 (dk_at dksX3_best_2 15 rfl rfl)
theorem dX3_best_63 : decode cX3_best 63 = .ok (.iload 5, 2) := dk_21 5 (dk_at dksX3_best_2 17 rfl rfl)
theorem dX3_best_65 : decode cX3_best 65 = .ok (.if_icmp .ge 161, 3) := dk_162 0 161 (dk_at dksX3_best_2 19 rfl rfl)
theorem dX3_best_68 : decode cX3_best 68 = .ok (.iload 8, 2) := dk_21 8 (dk_at dksX3_best_2 22 rfl rfl)
theorem dX3_best_70 : decode cX3_best 70 = .ok (.istore 9, 2) := dk_54 9 (dk_at dksX3_best_3 0 rfl rfl)
theorem dX3_best_72 : decode cX3_best 72 = .ok (.iload 4, 2) := dk_21 4 (dk_at dksX3_best_3 2 rfl rfl)
theorem dX3_best_74 : decode cX3_best 74 = .ok (.iconst 1, 1) := dk_4 (dk_at dksX3_best_3 4 rfl rfl)
theorem dX3_best_75 : decode cX3_best 75 = .ok (.isub, 1) := dk_100 (dk_at dksX3_best_3 5 rfl rfl)
theorem dX3_best_76 : decode cX3_best 76 = .ok (.istore 10, 2) := dk_54 10 (dk_at dksX3_best_3 6 rfl rfl)
theorem dX3_best_78 : decode cX3_best 78 = .ok (.iload 10, 2) := dk_21 10 (dk_at dksX3_best_3 8 rfl rfl)
theorem dX3_best_80 : decode cX3_best 80 = .ok (.ifCond .lt 44, 3) := dk_155 0 44 (dk_at dksX3_best_3 10 rfl rfl)
theorem dX3_best_83 : decode cX3_best 83 = .ok (.aload_n 0, 1) := dk_42 (dk_at dksX3_best_3 13 rfl rfl)
theorem dX3_best_84 : decode cX3_best 84 = .ok (.getfield 93, 3) := dk_180 0 93 (dk_at dksX3_best_3 14 rfl rfl)
theorem dX3_best_87 : decode cX3_best 87 = .ok (.iload 10, 2) := dk_21 10 (dk_at dksX3_best_3 17 rfl rfl)
theorem dX3_best_89 : decode cX3_best 89 = .ok (.iload 9, 2) := dk_21 9 (dk_at dksX3_best_3 19 rfl rfl)
theorem dX3_best_91 : decode cX3_best 91 = .ok (.bipush 6, 2) := dk_16 6 (dk_at dksX3_best_3 21 rfl rfl)
theorem dX3_best_93 : decode cX3_best 93 = .ok (.irem, 1) := dk_112 (dk_at dksX3_best_3 23 rfl rfl)
theorem dX3_best_94 : decode cX3_best 94 = .ok (.iastore, 1) := dk_79 (dk_at dksX3_best_4 0 rfl rfl)
theorem dX3_best_95 : decode cX3_best 95 = .ok (.aload_n 0, 1) := dk_42 (dk_at dksX3_best_4 1 rfl rfl)
theorem dX3_best_96 : decode cX3_best 96 = .ok (.getfield 93, 3) := dk_180 0 93 (dk_at dksX3_best_4 2 rfl rfl)
theorem dX3_best_99 : decode cX3_best 99 = .ok (.iload_n 1, 1) := dk_27 (dk_at dksX3_best_4 5 rfl rfl)
theorem dX3_best_100 : decode cX3_best 100 = .ok (.iconst 1, 1) := dk_4 (dk_at dksX3_best_4 6 rfl rfl)
theorem dX3_best_101 : decode cX3_best 101 = .ok (.isub, 1) := dk_100 (dk_at dksX3_best_4 7 rfl rfl)
theorem dX3_best_102 : decode cX3_best 102 = .ok (.iload 10, 2) := dk_21 10 (dk_at dksX3_best_4 8 rfl rfl)
theorem dX3_best_104 : decode cX3_best 104 = .ok (.isub, 1) := dk_100 (dk_at dksX3_best_4 10 rfl rfl)
theorem dX3_best_105 : decode cX3_best 105 = .ok (.iload 9, 2) := dk_21 9 (dk_at dksX3_best_4 11 rfl rfl)
theorem dX3_best_107 : decode cX3_best 107 = .ok (.bipush 6, 2) := dk_16 6 (dk_at dksX3_best_4 13 rfl rfl)
theorem dX3_best_109 : decode cX3_best 109 = .ok (.irem, 1) := dk_112 (dk_at dksX3_best_4 15 rfl rfl)
theorem dX3_best_110 : decode cX3_best 110 = .ok (.iastore, 1) := dk_79 (dk_at dksX3_best_4 16 rfl rfl)
theorem dX3_best_111 : decode cX3_best 111 = .ok (.iload 9, 2) := dk_21 9 (dk_at dksX3_best_4 17 rfl rfl)
theorem dX3_best_113 : decode cX3_best 113 = .ok (.bipush 6, 2) := dk_16 6 (dk_at dksX3_best_4 19 rfl rfl)
theorem dX3_best_115 : decode cX3_best 115 = .ok (.idiv, 1) := dk_108 (dk_at dksX3_best_4 21 rfl rfl)
theorem dX3_best_116 : decode cX3_best 116 = .ok (.istore 9, 2) := dk_54 9 (dk_at dksX3_best_4 22 rfl rfl)
theorem dX3_best_118 : decode cX3_best 118 = .ok (.iinc 10 (-1), 3) := dk_132 10 255 (dk_at dksX3_best_5 0 rfl rfl)
theorem dX3_best_121 : decode cX3_best 121 = .ok (.goto (-43), 3) := dk_167 255 213 (dk_at dksX3_best_5 3 rfl rfl)
theorem dX3_best_124 : decode cX3_best 124 = .ok (.aload_n 0, 1) := dk_42 (dk_at dksX3_best_5 6 rfl rfl)
theorem dX3_best_125 : decode cX3_best 125 = .ok (.iload_n 1, 1) := dk_27 (dk_at dksX3_best_5 7 rfl rfl)
theorem dX3_best_126 : decode cX3_best 126 = .ok (.iconst 2, 1) := dk_5 (dk_at dksX3_best_5 8 rfl rfl)
theorem dX3_best_127 : decode cX3_best 127 = .ok (.invokevirtual 309, 3) := dk_182 1 53 (dk_at dksX3_best_5 9 rfl rfl)
theorem dX3_best_130 : decode cX3_best 130 = .ok (.istore 10, 2) := dk_54 10 (dk_at dksX3_best_5 12 rfl rfl)
theorem dX3_best_132 : decode cX3_best 132 = .ok (.aload_n 0, 1) := dk_42 (dk_at dksX3_best_5 14 rfl rfl)
theorem dX3_best_133 : decode cX3_best 133 = .ok (.getfield 96, 3) := dk_180 0 96 (dk_at dksX3_best_5 15 rfl rfl)
theorem dX3_best_136 : decode cX3_best 136 = .ok (.aload_n 0, 1) := dk_42 (dk_at dksX3_best_5 18 rfl rfl)
theorem dX3_best_137 : decode cX3_best 137 = .ok (.getfield 93, 3) := dk_180 0 93 (dk_at dksX3_best_5 19 rfl rfl)
theorem dX3_best_140 : decode cX3_best 140 = .ok (.iconst 0, 1) := dk_3 (dk_at dksX3_best_5 22 rfl rfl)
theorem dX3_best_141 : decode cX3_best 141 = .ok (.iaload, 1) := dk_46 (dk_at dksX3_best_5 23 rfl rfl)
theorem dX3_best_142 : decode cX3_best 142 = .ok (.baload, 1) := dk_51 (dk_at dksX3_best_6 0 rfl rfl)
theorem dX3_best_143 : decode cX3_best 143 = .ok (.ifCond .eq 77, 3) := dk_153 0 77 (dk_at dksX3_best_6 1 rfl rfl)
theorem dX3_best_146 : decode cX3_best 146 = .ok (.aload_n 0, 1) := dk_42 (dk_at dksX3_best_6 4 rfl rfl)
theorem dX3_best_147 : decode cX3_best 147 = .ok (.iload_n 1, 1) := dk_27 (dk_at dksX3_best_6 5 rfl rfl)
theorem dX3_best_148 : decode cX3_best 148 = .ok (.iconst 0, 1) := dk_3 (dk_at dksX3_best_6 6 rfl rfl)
theorem dX3_best_149 : decode cX3_best 149 = .ok (.invokevirtual 309, 3) := dk_182 1 53 (dk_at dksX3_best_6 7 rfl rfl)
theorem dX3_best_152 : decode cX3_best 152 = .ok (.iload_n 2, 1) := dk_28 (dk_at dksX3_best_6 10 rfl rfl)
theorem dX3_best_153 : decode cX3_best 153 = .ok (.if_icmp .lt 67, 3) := dk_161 0 67 (dk_at dksX3_best_6 11 rfl rfl)
theorem dX3_best_156 : decode cX3_best 156 = .ok (.aload_n 0, 1) := dk_42 (dk_at dksX3_best_6 14 rfl rfl)
theorem dX3_best_157 : decode cX3_best 157 = .ok (.iload_n 1, 1) := dk_27 (dk_at dksX3_best_6 15 rfl rfl)
theorem dX3_best_158 : decode cX3_best 158 = .ok (.iconst 1, 1) := dk_4 (dk_at dksX3_best_6 16 rfl rfl)
theorem dX3_best_159 : decode cX3_best 159 = .ok (.invokevirtual 309, 3) := dk_182 1 53 (dk_at dksX3_best_6 17 rfl rfl)
theorem dX3_best_162 : decode cX3_best 162 = .ok (.iload_n 3, 1) := dk_29 (dk_at dksX3_best_6 20 rfl rfl)
theorem dX3_best_163 : decode cX3_best 163 = .ok (.if_icmp .gt 57, 3) := dk_163 0 57 (dk_at dksX3_best_6 21 rfl rfl)
theorem dX3_best_166 : decode cX3_best 166 = .ok (.iload 6, 2) := dk_21 6 (dk_at dksX3_best_7 0 rfl rfl)
theorem dX3_best_168 : decode cX3_best 168 = .ok (.ifCond .lt 13, 3) := dk_155 0 13 (dk_at dksX3_best_7 2 rfl rfl)
theorem dX3_best_171 : decode cX3_best 171 = .ok (.iload 10, 2) := dk_21 10 (dk_at dksX3_best_7 5 rfl rfl)
theorem dX3_best_173 : decode cX3_best 173 = .ok (.iload 7, 2) := dk_21 7 (dk_at dksX3_best_7 7 rfl rfl)
theorem dX3_best_175 : decode cX3_best 175 = .ok (.if_icmp .lt 6, 3) := dk_161 0 6 (dk_at dksX3_best_7 9 rfl rfl)
theorem dX3_best_178 : decode cX3_best 178 = .ok (.goto 42, 3) := dk_167 0 42 (dk_at dksX3_best_7 12 rfl rfl)
theorem dX3_best_181 : decode cX3_best 181 = .ok (.iload 10, 2) := dk_21 10 (dk_at dksX3_best_7 15 rfl rfl)
theorem dX3_best_183 : decode cX3_best 183 = .ok (.istore 7, 2) := dk_54 7 (dk_at dksX3_best_7 17 rfl rfl)
theorem dX3_best_185 : decode cX3_best 185 = .ok (.iconst 0, 1) := dk_3 (dk_at dksX3_best_7 19 rfl rfl)
theorem dX3_best_186 : decode cX3_best 186 = .ok (.istore 6, 2) := dk_54 6 (dk_at dksX3_best_7 20 rfl rfl)
theorem dX3_best_188 : decode cX3_best 188 = .ok (.iconst 0, 1) := dk_3 (dk_at dksX3_best_7 22 rfl rfl)
theorem dX3_best_189 : decode cX3_best 189 = .ok (.istore 11, 2) := dk_54 11 (dk_at dksX3_best_8 0 rfl rfl)
theorem dX3_best_191 : decode cX3_best 191 = .ok (.iload 11, 2) := dk_21 11 (dk_at dksX3_best_8 2 rfl rfl)
theorem dX3_best_193 : decode cX3_best 193 = .ok (.iload_n 1, 1) := dk_27 (dk_at dksX3_best_8 4 rfl rfl)
theorem dX3_best_194 : decode cX3_best 194 = .ok (.if_icmp .ge 26, 3) := dk_162 0 26 (dk_at dksX3_best_8 5 rfl rfl)
theorem dX3_best_197 : decode cX3_best 197 = .ok (.iload 6, 2) := dk_21 6 (dk_at dksX3_best_8 8 rfl rfl)
theorem dX3_best_199 : decode cX3_best 199 = .ok (.aload_n 0, 1) := dk_42 (dk_at dksX3_best_8 10 rfl rfl)
theorem dX3_best_200 : decode cX3_best 200 = .ok (.getfield 93, 3) := dk_180 0 93 (dk_at dksX3_best_8 11 rfl rfl)
theorem dX3_best_203 : decode cX3_best 203 = .ok (.iload 11, 2) := dk_21 11 (dk_at dksX3_best_8 14 rfl rfl)
theorem dX3_best_205 : decode cX3_best 205 = .ok (.iaload, 1) := dk_46 (dk_at dksX3_best_8 16 rfl rfl)
theorem dX3_best_206 : decode cX3_best 206 = .ok (.iconst 3, 1) := dk_6 (dk_at dksX3_best_8 17 rfl rfl)
theorem dX3_best_207 : decode cX3_best 207 = .ok (.iload 11, 2) := dk_21 11 (dk_at dksX3_best_8 18 rfl rfl)
theorem dX3_best_209 : decode cX3_best 209 = .ok (.imul, 1) := dk_104 (dk_at dksX3_best_8 20 rfl rfl)
theorem dX3_best_210 : decode cX3_best 210 = .ok (.ishl, 1) := dk_120 (dk_at dksX3_best_8 21 rfl rfl)
theorem dX3_best_211 : decode cX3_best 211 = .ok (.ior, 1) := dk_128 (dk_at dksX3_best_8 22 rfl rfl)
theorem dX3_best_212 : decode cX3_best 212 = .ok (.istore 6, 2) := dk_54 6 (dk_at dksX3_best_9 0 rfl rfl)
theorem dX3_best_214 : decode cX3_best 214 = .ok (.iinc 11 1, 3) := dk_132 11 1 (dk_at dksX3_best_9 2 rfl rfl)
theorem dX3_best_217 : decode cX3_best 217 = .ok (.goto (-26), 3) := dk_167 255 230 (dk_at dksX3_best_9 5 rfl rfl)
theorem dX3_best_220 : decode cX3_best 220 = .ok (.iinc 8 1, 3) := dk_132 8 1 (dk_at dksX3_best_9 8 rfl rfl)
theorem dX3_best_223 : decode cX3_best 223 = .ok (.goto (-162), 3) := dk_167 255 94 (dk_at dksX3_best_9 11 rfl rfl)
theorem dX3_best_226 : decode cX3_best 226 = .ok (.iload 6, 2) := dk_21 6 (dk_at dksX3_best_9 14 rfl rfl)
theorem dX3_best_228 : decode cX3_best 228 = .ok (.ireturn, 1) := dk_172 (dk_at dksX3_best_9 16 rfl rfl)
abbrev cX3_press : ByteArray := prog_16_method_49_code
def yX3_press : MethodName := ⟨RX3, "press", "(IIII)Z"⟩
def dkwX3_press_2 : List UInt8 := [172, 42, 27, 181, 0, 99, 42, 28, 181, 0, 102, 42, 29, 181, 0, 105, 42, 21, 4, 181, 0, 108, 4, 172]
abbrev dktX3_press_2 : List UInt8 := dkwX3_press_2 ++ []
def dkwX3_press_1 : List UInt8 := [155, 0, 23, 29, 16, 10, 163, 0, 17, 21, 4, 4, 161, 0, 11, 21, 4, 17, 3, 232, 164, 0, 5, 3]
abbrev dktX3_press_1 : List UInt8 := dkwX3_press_1 ++ dktX3_press_2
def dkwX3_press_0 : List UInt8 := [27, 4, 161, 0, 43, 27, 16, 10, 163, 0, 37, 28, 155, 0, 33, 28, 16, 100, 163, 0, 27, 29]
abbrev dktX3_press_0 : List UInt8 := dkwX3_press_0 ++ dktX3_press_1
theorem dksX3_press_0 : cX3_press.data.toList.drop 0 = dktX3_press_0 := by decide +kernel
theorem dksX3_press_1 : cX3_press.data.toList.drop 22 = dktX3_press_1 := dk_seg dksX3_press_0 22 rfl rfl
theorem dksX3_press_2 : cX3_press.data.toList.drop 46 = dktX3_press_2 := dk_seg dksX3_press_1 24 rfl rfl
theorem dX3_press_0 : decode cX3_press 0 = .ok (.iload_n 1, 1) := dk_27 (dk_at dksX3_press_0 0 rfl rfl)
theorem dX3_press_1 : decode cX3_press 1 = .ok (.iconst 1, 1) := dk_4 (dk_at dksX3_press_0 1 rfl rfl)
theorem dX3_press_2 : decode cX3_press 2 = .ok (.if_icmp .lt 43, 3) := dk_161 0 43 (dk_at dksX3_press_0 2 rfl rfl)
theorem dX3_press_5 : decode cX3_press 5 = .ok (.iload_n 1, 1) := dk_27 (dk_at dksX3_press_0 5 rfl rfl)
theorem dX3_press_6 : decode cX3_press 6 = .ok (.bipush 10, 2) := dk_16 10 (dk_at dksX3_press_0 6 rfl rfl)
theorem dX3_press_8 : decode cX3_press 8 = .ok (.if_icmp .gt 37, 3) := dk_163 0 37 (dk_at dksX3_press_0 8 rfl rfl)
theorem dX3_press_11 : decode cX3_press 11 = .ok (.iload_n 2, 1) := dk_28 (dk_at dksX3_press_0 11 rfl rfl)
theorem dX3_press_12 : decode cX3_press 12 = .ok (.ifCond .lt 33, 3) := dk_155 0 33 (dk_at dksX3_press_0 12 rfl rfl)
theorem dX3_press_15 : decode cX3_press 15 = .ok (.iload_n 2, 1) := dk_28 (dk_at dksX3_press_0 15 rfl rfl)
theorem dX3_press_16 : decode cX3_press 16 = .ok (.bipush 100, 2) := dk_16 100 (dk_at dksX3_press_0 16 rfl rfl)
theorem dX3_press_18 : decode cX3_press 18 = .ok (.if_icmp .gt 27, 3) := dk_163 0 27 (dk_at dksX3_press_0 18 rfl rfl)
theorem dX3_press_21 : decode cX3_press 21 = .ok (.iload_n 3, 1) := dk_29 (dk_at dksX3_press_0 21 rfl rfl)
theorem dX3_press_22 : decode cX3_press 22 = .ok (.ifCond .lt 23, 3) := dk_155 0 23 (dk_at dksX3_press_1 0 rfl rfl)
theorem dX3_press_25 : decode cX3_press 25 = .ok (.iload_n 3, 1) := dk_29 (dk_at dksX3_press_1 3 rfl rfl)
theorem dX3_press_26 : decode cX3_press 26 = .ok (.bipush 10, 2) := dk_16 10 (dk_at dksX3_press_1 4 rfl rfl)
theorem dX3_press_28 : decode cX3_press 28 = .ok (.if_icmp .gt 17, 3) := dk_163 0 17 (dk_at dksX3_press_1 6 rfl rfl)
theorem dX3_press_31 : decode cX3_press 31 = .ok (.iload 4, 2) := dk_21 4 (dk_at dksX3_press_1 9 rfl rfl)
theorem dX3_press_33 : decode cX3_press 33 = .ok (.iconst 1, 1) := dk_4 (dk_at dksX3_press_1 11 rfl rfl)
theorem dX3_press_34 : decode cX3_press 34 = .ok (.if_icmp .lt 11, 3) := dk_161 0 11 (dk_at dksX3_press_1 12 rfl rfl)
theorem dX3_press_37 : decode cX3_press 37 = .ok (.iload 4, 2) := dk_21 4 (dk_at dksX3_press_1 15 rfl rfl)
theorem dX3_press_39 : decode cX3_press 39 = .ok (.sipush 1000, 3) := dk_17 3 232 (dk_at dksX3_press_1 17 rfl rfl)
theorem dX3_press_42 : decode cX3_press 42 = .ok (.if_icmp .le 5, 3) := dk_164 0 5 (dk_at dksX3_press_1 20 rfl rfl)
theorem dX3_press_45 : decode cX3_press 45 = .ok (.iconst 0, 1) := dk_3 (dk_at dksX3_press_1 23 rfl rfl)
theorem dX3_press_46 : decode cX3_press 46 = .ok (.ireturn, 1) := dk_172 (dk_at dksX3_press_2 0 rfl rfl)
theorem dX3_press_47 : decode cX3_press 47 = .ok (.aload_n 0, 1) := dk_42 (dk_at dksX3_press_2 1 rfl rfl)
theorem dX3_press_48 : decode cX3_press 48 = .ok (.iload_n 1, 1) := dk_27 (dk_at dksX3_press_2 2 rfl rfl)
theorem dX3_press_49 : decode cX3_press 49 = .ok (.putfield 99, 3) := dk_181 0 99 (dk_at dksX3_press_2 3 rfl rfl)
theorem dX3_press_52 : decode cX3_press 52 = .ok (.aload_n 0, 1) := dk_42 (dk_at dksX3_press_2 6 rfl rfl)
theorem dX3_press_53 : decode cX3_press 53 = .ok (.iload_n 2, 1) := dk_28 (dk_at dksX3_press_2 7 rfl rfl)
theorem dX3_press_54 : decode cX3_press 54 = .ok (.putfield 102, 3) := dk_181 0 102 (dk_at dksX3_press_2 8 rfl rfl)
theorem dX3_press_57 : decode cX3_press 57 = .ok (.aload_n 0, 1) := dk_42 (dk_at dksX3_press_2 11 rfl rfl)
theorem dX3_press_58 : decode cX3_press 58 = .ok (.iload_n 3, 1) := dk_29 (dk_at dksX3_press_2 12 rfl rfl)
theorem dX3_press_59 : decode cX3_press 59 = .ok (.putfield 105, 3) := dk_181 0 105 (dk_at dksX3_press_2 13 rfl rfl)
theorem dX3_press_62 : decode cX3_press 62 = .ok (.aload_n 0, 1) := dk_42 (dk_at dksX3_press_2 16 rfl rfl)
theorem dX3_press_63 : decode cX3_press 63 = .ok (.iload 4, 2) := dk_21 4 (dk_at dksX3_press_2 17 rfl rfl)
theorem dX3_press_65 : decode cX3_press 65 = .ok (.putfield 108, 3) := dk_181 0 108 (dk_at dksX3_press_2 19 rfl rfl)
theorem dX3_press_68 : decode cX3_press 68 = .ok (.iconst 1, 1) := dk_4 (dk_at dksX3_press_2 22 rfl rfl)
theorem dX3_press_69 : decode cX3_press 69 = .ok (.ireturn, 1) := dk_172 (dk_at dksX3_press_2 23 rfl rfl)
abbrev cX3_glue : ByteArray := prog_16_method_50_code
def yX3_glue : MethodName := ⟨RX3, "glue", "(II)I"⟩
def dkwX3_glue_3 : List UInt8 := [100, 172]
abbrev dktX3_glue_3 : List UInt8 := dkwX3_glue_3 ++ []
def dkwX3_glue_2 : List UInt8 := [180, 0, 114, 42, 180, 1, 57, 28, 79, 42, 89, 180, 1, 57, 4, 96, 181, 1, 57, 42, 180, 1, 57, 4]
abbrev dktX3_glue_2 : List UInt8 := dkwX3_glue_2 ++ dktX3_glue_3
def dkwX3_glue_1 : List UInt8 := [155, 0, 10, 28, 17, 39, 16, 164, 0, 5, 2, 172, 42, 180, 0, 111, 42, 180, 1, 57, 27, 79, 42]
abbrev dktX3_glue_1 : List UInt8 := dkwX3_glue_1 ++ dktX3_glue_2
def dkwX3_glue_0 : List UInt8 := [42, 180, 1, 57, 16, 10, 159, 0, 26, 27, 4, 161, 0, 21, 27, 17, 1, 244, 163, 0, 14, 28]
abbrev dktX3_glue_0 : List UInt8 := dkwX3_glue_0 ++ dktX3_glue_1
theorem dksX3_glue_0 : cX3_glue.data.toList.drop 0 = dktX3_glue_0 := by decide +kernel
theorem dksX3_glue_1 : cX3_glue.data.toList.drop 22 = dktX3_glue_1 := dk_seg dksX3_glue_0 22 rfl rfl
theorem dksX3_glue_2 : cX3_glue.data.toList.drop 45 = dktX3_glue_2 := dk_seg dksX3_glue_1 23 rfl rfl
theorem dksX3_glue_3 : cX3_glue.data.toList.drop 69 = dktX3_glue_3 := dk_seg dksX3_glue_2 24 rfl rfl
theorem dX3_glue_0 : decode cX3_glue 0 = .ok (.aload_n 0, 1) := dk_42 (dk_at dksX3_glue_0 0 rfl rfl)
theorem dX3_glue_1 : decode cX3_glue 1 = .ok (.getfield 313, 3) := dk_180 1 57 (dk_at dksX3_glue_0 1 rfl rfl)
theorem dX3_glue_4 : decode cX3_glue 4 = .ok (.bipush 10, 2) := dk_16 10 (dk_at dksX3_glue_0 4 rfl rfl)
theorem dX3_glue_6 : decode cX3_glue 6 = .ok (.if_icmp .eq 26, 3) := dk_159 0 26 (dk_at dksX3_glue_0 6 rfl rfl)
theorem dX3_glue_9 : decode cX3_glue 9 = .ok (.iload_n 1, 1) := dk_27 (dk_at dksX3_glue_0 9 rfl rfl)
theorem dX3_glue_10 : decode cX3_glue 10 = .ok (.iconst 1, 1) := dk_4 (dk_at dksX3_glue_0 10 rfl rfl)
theorem dX3_glue_11 : decode cX3_glue 11 = .ok (.if_icmp .lt 21, 3) := dk_161 0 21 (dk_at dksX3_glue_0 11 rfl rfl)
theorem dX3_glue_14 : decode cX3_glue 14 = .ok (.iload_n 1, 1) := dk_27 (dk_at dksX3_glue_0 14 rfl rfl)
theorem dX3_glue_15 : decode cX3_glue 15 = .ok (.sipush 500, 3) := dk_17 1 244 (dk_at dksX3_glue_0 15 rfl rfl)
theorem dX3_glue_18 : decode cX3_glue 18 = .ok (.if_icmp .gt 14, 3) := dk_163 0 14 (dk_at dksX3_glue_0 18 rfl rfl)
theorem dX3_glue_21 : decode cX3_glue 21 = .ok (.iload_n 2, 1) := dk_28 (dk_at dksX3_glue_0 21 rfl rfl)
theorem dX3_glue_22 : decode cX3_glue 22 = .ok (.ifCond .lt 10, 3) := dk_155 0 10 (dk_at dksX3_glue_1 0 rfl rfl)
theorem dX3_glue_25 : decode cX3_glue 25 = .ok (.iload_n 2, 1) := dk_28 (dk_at dksX3_glue_1 3 rfl rfl)
theorem dX3_glue_26 : decode cX3_glue 26 = .ok (.sipush 10000, 3) := dk_17 39 16 (dk_at dksX3_glue_1 4 rfl rfl)
theorem dX3_glue_29 : decode cX3_glue 29 = .ok (.if_icmp .le 5, 3) := dk_164 0 5 (dk_at dksX3_glue_1 7 rfl rfl)
theorem dX3_glue_32 : decode cX3_glue 32 = .ok (.iconst (-1), 1) := dk_2 (dk_at dksX3_glue_1 10 rfl rfl)
theorem dX3_glue_33 : decode cX3_glue 33 = .ok (.ireturn, 1) := dk_172 (dk_at dksX3_glue_1 11 rfl rfl)
theorem dX3_glue_34 : decode cX3_glue 34 = .ok (.aload_n 0, 1) := dk_42 (dk_at dksX3_glue_1 12 rfl rfl)
theorem dX3_glue_35 : decode cX3_glue 35 = .ok (.getfield 111, 3) := dk_180 0 111 (dk_at dksX3_glue_1 13 rfl rfl)
theorem dX3_glue_38 : decode cX3_glue 38 = .ok (.aload_n 0, 1) := dk_42 (dk_at dksX3_glue_1 16 rfl rfl)
theorem dX3_glue_39 : decode cX3_glue 39 = .ok (.getfield 313, 3) := dk_180 1 57 (dk_at dksX3_glue_1 17 rfl rfl)
theorem dX3_glue_42 : decode cX3_glue 42 = .ok (.iload_n 1, 1) := dk_27 (dk_at dksX3_glue_1 20 rfl rfl)
theorem dX3_glue_43 : decode cX3_glue 43 = .ok (.iastore, 1) := dk_79 (dk_at dksX3_glue_1 21 rfl rfl)
theorem dX3_glue_44 : decode cX3_glue 44 = .ok (.aload_n 0, 1) := dk_42 (dk_at dksX3_glue_1 22 rfl rfl)
theorem dX3_glue_45 : decode cX3_glue 45 = .ok (.getfield 114, 3) := dk_180 0 114 (dk_at dksX3_glue_2 0 rfl rfl)
theorem dX3_glue_48 : decode cX3_glue 48 = .ok (.aload_n 0, 1) := dk_42 (dk_at dksX3_glue_2 3 rfl rfl)
theorem dX3_glue_49 : decode cX3_glue 49 = .ok (.getfield 313, 3) := dk_180 1 57 (dk_at dksX3_glue_2 4 rfl rfl)
theorem dX3_glue_52 : decode cX3_glue 52 = .ok (.iload_n 2, 1) := dk_28 (dk_at dksX3_glue_2 7 rfl rfl)
theorem dX3_glue_53 : decode cX3_glue 53 = .ok (.iastore, 1) := dk_79 (dk_at dksX3_glue_2 8 rfl rfl)
theorem dX3_glue_54 : decode cX3_glue 54 = .ok (.aload_n 0, 1) := dk_42 (dk_at dksX3_glue_2 9 rfl rfl)
theorem dX3_glue_55 : decode cX3_glue 55 = .ok (.dup, 1) := dk_89 (dk_at dksX3_glue_2 10 rfl rfl)
theorem dX3_glue_56 : decode cX3_glue 56 = .ok (.getfield 313, 3) := dk_180 1 57 (dk_at dksX3_glue_2 11 rfl rfl)
theorem dX3_glue_59 : decode cX3_glue 59 = .ok (.iconst 1, 1) := dk_4 (dk_at dksX3_glue_2 14 rfl rfl)
theorem dX3_glue_60 : decode cX3_glue 60 = .ok (.iadd, 1) := dk_96 (dk_at dksX3_glue_2 15 rfl rfl)
theorem dX3_glue_61 : decode cX3_glue 61 = .ok (.putfield 313, 3) := dk_181 1 57 (dk_at dksX3_glue_2 16 rfl rfl)
theorem dX3_glue_64 : decode cX3_glue 64 = .ok (.aload_n 0, 1) := dk_42 (dk_at dksX3_glue_2 19 rfl rfl)
theorem dX3_glue_65 : decode cX3_glue 65 = .ok (.getfield 313, 3) := dk_180 1 57 (dk_at dksX3_glue_2 20 rfl rfl)
theorem dX3_glue_68 : decode cX3_glue 68 = .ok (.iconst 1, 1) := dk_4 (dk_at dksX3_glue_2 23 rfl rfl)
theorem dX3_glue_69 : decode cX3_glue 69 = .ok (.isub, 1) := dk_100 (dk_at dksX3_glue_3 0 rfl rfl)
theorem dX3_glue_70 : decode cX3_glue 70 = .ok (.ireturn, 1) := dk_172 (dk_at dksX3_glue_3 1 rfl rfl)
abbrev cX3_drop : ByteArray := prog_16_method_51_code
def yX3_drop : MethodName := ⟨RX3, "drop", "()Z"⟩
def dkwX3_drop_0 : List UInt8 := [42, 180, 1, 57, 154, 0, 5, 3, 172, 42, 89, 180, 1, 57, 4, 100, 181, 1, 57, 4, 172]
abbrev dktX3_drop_0 : List UInt8 := dkwX3_drop_0 ++ []
theorem dksX3_drop_0 : cX3_drop.data.toList.drop 0 = dktX3_drop_0 := by decide +kernel
theorem dX3_drop_0 : decode cX3_drop 0 = .ok (.aload_n 0, 1) := dk_42 (dk_at dksX3_drop_0 0 rfl rfl)
theorem dX3_drop_1 : decode cX3_drop 1 = .ok (.getfield 313, 3) := dk_180 1 57 (dk_at dksX3_drop_0 1 rfl rfl)
theorem dX3_drop_4 : decode cX3_drop 4 = .ok (.ifCond .ne 5, 3) := dk_154 0 5 (dk_at dksX3_drop_0 4 rfl rfl)
theorem dX3_drop_7 : decode cX3_drop 7 = .ok (.iconst 0, 1) := dk_3 (dk_at dksX3_drop_0 7 rfl rfl)
theorem dX3_drop_8 : decode cX3_drop 8 = .ok (.ireturn, 1) := dk_172 (dk_at dksX3_drop_0 8 rfl rfl)
theorem dX3_drop_9 : decode cX3_drop 9 = .ok (.aload_n 0, 1) := dk_42 (dk_at dksX3_drop_0 9 rfl rfl)
theorem dX3_drop_10 : decode cX3_drop 10 = .ok (.dup, 1) := dk_89 (dk_at dksX3_drop_0 10 rfl rfl)
theorem dX3_drop_11 : decode cX3_drop 11 = .ok (.getfield 313, 3) := dk_180 1 57 (dk_at dksX3_drop_0 11 rfl rfl)
theorem dX3_drop_14 : decode cX3_drop 14 = .ok (.iconst 1, 1) := dk_4 (dk_at dksX3_drop_0 14 rfl rfl)
theorem dX3_drop_15 : decode cX3_drop 15 = .ok (.isub, 1) := dk_100 (dk_at dksX3_drop_0 15 rfl rfl)
theorem dX3_drop_16 : decode cX3_drop 16 = .ok (.putfield 313, 3) := dk_181 1 57 (dk_at dksX3_drop_0 16 rfl rfl)
theorem dX3_drop_19 : decode cX3_drop 19 = .ok (.iconst 1, 1) := dk_4 (dk_at dksX3_drop_0 19 rfl rfl)
theorem dX3_drop_20 : decode cX3_drop 20 = .ok (.ireturn, 1) := dk_172 (dk_at dksX3_drop_0 20 rfl rfl)
abbrev cX3_plan : ByteArray := prog_16_method_57_code
def yX3_plan : MethodName := ⟨RX3, "plan", "(I)I"⟩
def dkwX3_plan_2 : List UInt8 := [6, 160, 0, 10, 42, 180, 1, 76, 167, 0, 4, 2, 172]
abbrev dktX3_plan_2 : List UInt8 := dkwX3_plan_2 ++ []
def dkwX3_plan_1 : List UInt8 := [180, 1, 70, 167, 0, 33, 27, 5, 160, 0, 15, 42, 180, 0, 117, 42, 180, 1, 70, 46, 167, 0, 16, 27]
abbrev dktX3_plan_1 : List UInt8 := dkwX3_plan_1 ++ dktX3_plan_2
def dkwX3_plan_0 : List UInt8 := [42, 182, 1, 79, 27, 154, 0, 13, 42, 180, 1, 70, 184, 1, 61, 167, 0, 45, 27, 4, 160, 0, 10, 42]
abbrev dktX3_plan_0 : List UInt8 := dkwX3_plan_0 ++ dktX3_plan_1
theorem dksX3_plan_0 : cX3_plan.data.toList.drop 0 = dktX3_plan_0 := by decide +kernel
theorem dksX3_plan_1 : cX3_plan.data.toList.drop 24 = dktX3_plan_1 := dk_seg dksX3_plan_0 24 rfl rfl
theorem dksX3_plan_2 : cX3_plan.data.toList.drop 48 = dktX3_plan_2 := dk_seg dksX3_plan_1 24 rfl rfl
theorem dX3_plan_0 : decode cX3_plan 0 = .ok (.aload_n 0, 1) := dk_42 (dk_at dksX3_plan_0 0 rfl rfl)
theorem dX3_plan_1 : decode cX3_plan 1 = .ok (.invokevirtual 335, 3) := dk_182 1 79 (dk_at dksX3_plan_0 1 rfl rfl)
theorem dX3_plan_4 : decode cX3_plan 4 = .ok (.iload_n 1, 1) := dk_27 (dk_at dksX3_plan_0 4 rfl rfl)
theorem dX3_plan_5 : decode cX3_plan 5 = .ok (.ifCond .ne 13, 3) := dk_154 0 13 (dk_at dksX3_plan_0 5 rfl rfl)
theorem dX3_plan_8 : decode cX3_plan 8 = .ok (.aload_n 0, 1) := dk_42 (dk_at dksX3_plan_0 8 rfl rfl)
theorem dX3_plan_9 : decode cX3_plan 9 = .ok (.getfield 326, 3) := dk_180 1 70 (dk_at dksX3_plan_0 9 rfl rfl)
theorem dX3_plan_12 : decode cX3_plan 12 = .ok (.invokestatic 317, 3) := dk_184 1 61 (dk_at dksX3_plan_0 12 rfl rfl)
theorem dX3_plan_15 : decode cX3_plan 15 = .ok (.goto 45, 3) := dk_167 0 45 (dk_at dksX3_plan_0 15 rfl rfl)
theorem dX3_plan_18 : decode cX3_plan 18 = .ok (.iload_n 1, 1) := dk_27 (dk_at dksX3_plan_0 18 rfl rfl)
theorem dX3_plan_19 : decode cX3_plan 19 = .ok (.iconst 1, 1) := dk_4 (dk_at dksX3_plan_0 19 rfl rfl)
theorem dX3_plan_20 : decode cX3_plan 20 = .ok (.if_icmp .ne 10, 3) := dk_160 0 10 (dk_at dksX3_plan_0 20 rfl rfl)
theorem dX3_plan_23 : decode cX3_plan 23 = .ok (.aload_n 0, 1) := dk_42 (dk_at dksX3_plan_0 23 rfl rfl)
theorem dX3_plan_24 : decode cX3_plan 24 = .ok (.getfield 326, 3) := dk_180 1 70 (dk_at dksX3_plan_1 0 rfl rfl)
theorem dX3_plan_27 : decode cX3_plan 27 = .ok (.goto 33, 3) := dk_167 0 33 (dk_at dksX3_plan_1 3 rfl rfl)
theorem dX3_plan_30 : decode cX3_plan 30 = .ok (.iload_n 1, 1) := dk_27 (dk_at dksX3_plan_1 6 rfl rfl)
theorem dX3_plan_31 : decode cX3_plan 31 = .ok (.iconst 2, 1) := dk_5 (dk_at dksX3_plan_1 7 rfl rfl)
theorem dX3_plan_32 : decode cX3_plan 32 = .ok (.if_icmp .ne 15, 3) := dk_160 0 15 (dk_at dksX3_plan_1 8 rfl rfl)
theorem dX3_plan_35 : decode cX3_plan 35 = .ok (.aload_n 0, 1) := dk_42 (dk_at dksX3_plan_1 11 rfl rfl)
theorem dX3_plan_36 : decode cX3_plan 36 = .ok (.getfield 117, 3) := dk_180 0 117 (dk_at dksX3_plan_1 12 rfl rfl)
theorem dX3_plan_39 : decode cX3_plan 39 = .ok (.aload_n 0, 1) := dk_42 (dk_at dksX3_plan_1 15 rfl rfl)
theorem dX3_plan_40 : decode cX3_plan 40 = .ok (.getfield 326, 3) := dk_180 1 70 (dk_at dksX3_plan_1 16 rfl rfl)
theorem dX3_plan_43 : decode cX3_plan 43 = .ok (.iaload, 1) := dk_46 (dk_at dksX3_plan_1 19 rfl rfl)
theorem dX3_plan_44 : decode cX3_plan 44 = .ok (.goto 16, 3) := dk_167 0 16 (dk_at dksX3_plan_1 20 rfl rfl)
theorem dX3_plan_47 : decode cX3_plan 47 = .ok (.iload_n 1, 1) := dk_27 (dk_at dksX3_plan_1 23 rfl rfl)
theorem dX3_plan_48 : decode cX3_plan 48 = .ok (.iconst 3, 1) := dk_6 (dk_at dksX3_plan_2 0 rfl rfl)
theorem dX3_plan_49 : decode cX3_plan 49 = .ok (.if_icmp .ne 10, 3) := dk_160 0 10 (dk_at dksX3_plan_2 1 rfl rfl)
theorem dX3_plan_52 : decode cX3_plan 52 = .ok (.aload_n 0, 1) := dk_42 (dk_at dksX3_plan_2 4 rfl rfl)
theorem dX3_plan_53 : decode cX3_plan 53 = .ok (.getfield 332, 3) := dk_180 1 76 (dk_at dksX3_plan_2 5 rfl rfl)
theorem dX3_plan_56 : decode cX3_plan 56 = .ok (.goto 4, 3) := dk_167 0 4 (dk_at dksX3_plan_2 8 rfl rfl)
theorem dX3_plan_59 : decode cX3_plan 59 = .ok (.iconst (-1), 1) := dk_2 (dk_at dksX3_plan_2 11 rfl rfl)
theorem dX3_plan_60 : decode cX3_plan 60 = .ok (.ireturn, 1) := dk_172 (dk_at dksX3_plan_2 12 rfl rfl)
abbrev cX3_seek : ByteArray := prog_16_method_56_code
def yX3_seek : MethodName := ⟨RX3, "seek", "()V"⟩
def dkwX3_seek_10 : List UInt8 := [28, 2, 130, 126, 60, 167, 255, 171, 177]
abbrev dktX3_seek_10 : List UInt8 := dkwX3_seek_10 ++ []
def dkwX3_seek_9 : List UInt8 := [180, 0, 117, 27, 28, 2, 130, 126, 46, 182, 1, 64, 79, 42, 89, 180, 1, 76, 4, 96, 181, 1, 76, 27]
abbrev dktX3_seek_9 : List UInt8 := dkwX3_seek_9 ++ dktX3_seek_10
def dkwX3_seek_8 : List UInt8 := [167, 255, 230, 42, 180, 0, 120, 42, 180, 1, 76, 28, 79, 42, 180, 0, 123, 42, 180, 1, 76, 42, 28, 42]
abbrev dktX3_seek_8 : List UInt8 := dkwX3_seek_8 ++ dktX3_seek_9
def dkwX3_seek_7 : List UInt8 := [2, 130, 126, 154, 0, 18, 42, 27, 28, 182, 1, 73, 42, 180, 0, 117, 27, 46, 159, 0, 9, 132, 2, 1]
abbrev dktX3_seek_7 : List UInt8 := dkwX3_seek_7 ++ dktX3_seek_8
def dkwX3_seek_6 : List UInt8 := [132, 1, 1, 167, 255, 128, 42, 3, 181, 1, 76, 42, 180, 1, 70, 60, 27, 158, 0, 87, 4, 61, 28, 27]
abbrev dktX3_seek_6 : List UInt8 := dkwX3_seek_6 ++ dktX3_seek_7
def dkwX3_seek_5 : List UInt8 := [180, 0, 117, 27, 46, 42, 180, 0, 117, 42, 180, 1, 70, 46, 162, 0, 8, 42, 27, 181, 1, 70]
abbrev dktX3_seek_5 : List UInt8 := dkwX3_seek_5 ++ dktX3_seek_6
def dkwX3_seek_4 : List UInt8 := [180, 0, 117, 27, 46, 19, 1, 60, 162, 0, 36, 28, 29, 163, 0, 26, 28, 29, 160, 0, 26, 42]
abbrev dktX3_seek_4 : List UInt8 := dkwX3_seek_4 ++ dktX3_seek_5
def dkwX3_seek_3 : List UInt8 := [79, 28, 4, 100, 27, 126, 61, 167, 255, 213, 27, 184, 1, 61, 61, 42, 180, 1, 70, 184, 1, 61, 62, 42]
abbrev dktX3_seek_3 : List UInt8 := dkwX3_seek_3 ++ dktX3_seek_4
def dkwX3_seek_2 : List UInt8 := [180, 0, 117, 27, 29, 42, 180, 0, 117, 27, 46, 162, 0, 7, 29, 167, 0, 9, 42, 180, 0, 117, 27, 46]
abbrev dktX3_seek_2 : List UInt8 := dkwX3_seek_2 ++ dktX3_seek_3
def dkwX3_seek_1 : List UInt8 := [42, 180, 0, 117, 27, 19, 1, 60, 79, 27, 61, 28, 158, 0, 45, 42, 27, 28, 182, 1, 73, 62, 42]
abbrev dktX3_seek_1 : List UInt8 := dkwX3_seek_1 ++ dktX3_seek_2
def dkwX3_seek_0 : List UInt8 := [42, 3, 181, 1, 70, 42, 180, 0, 117, 3, 3, 79, 4, 60, 27, 4, 42, 180, 1, 57, 120, 162, 0, 124]
abbrev dktX3_seek_0 : List UInt8 := dkwX3_seek_0 ++ dktX3_seek_1
theorem dksX3_seek_0 : cX3_seek.data.toList.drop 0 = dktX3_seek_0 := by decide +kernel
theorem dksX3_seek_1 : cX3_seek.data.toList.drop 24 = dktX3_seek_1 := dk_seg dksX3_seek_0 24 rfl rfl
theorem dksX3_seek_2 : cX3_seek.data.toList.drop 47 = dktX3_seek_2 := dk_seg dksX3_seek_1 23 rfl rfl
theorem dksX3_seek_3 : cX3_seek.data.toList.drop 71 = dktX3_seek_3 := dk_seg dksX3_seek_2 24 rfl rfl
theorem dksX3_seek_4 : cX3_seek.data.toList.drop 95 = dktX3_seek_4 := dk_seg dksX3_seek_3 24 rfl rfl
theorem dksX3_seek_5 : cX3_seek.data.toList.drop 117 = dktX3_seek_5 := dk_seg dksX3_seek_4 22 rfl rfl
theorem dksX3_seek_6 : cX3_seek.data.toList.drop 139 = dktX3_seek_6 := dk_seg dksX3_seek_5 22 rfl rfl
theorem dksX3_seek_7 : cX3_seek.data.toList.drop 163 = dktX3_seek_7 := dk_seg dksX3_seek_6 24 rfl rfl
theorem dksX3_seek_8 : cX3_seek.data.toList.drop 187 = dktX3_seek_8 := dk_seg dksX3_seek_7 24 rfl rfl
theorem dksX3_seek_9 : cX3_seek.data.toList.drop 211 = dktX3_seek_9 := dk_seg dksX3_seek_8 24 rfl rfl
theorem dksX3_seek_10 : cX3_seek.data.toList.drop 235 = dktX3_seek_10 := dk_seg dksX3_seek_9 24 rfl rfl
theorem dX3_seek_0 : decode cX3_seek 0 = .ok (.aload_n 0, 1) := dk_42 (dk_at dksX3_seek_0 0 rfl rfl)
theorem dX3_seek_1 : decode cX3_seek 1 = .ok (.iconst 0, 1) := dk_3 (dk_at dksX3_seek_0 1 rfl rfl)
theorem dX3_seek_2 : decode cX3_seek 2 = .ok (.putfield 326, 3) := dk_181 1 70 (dk_at dksX3_seek_0 2 rfl rfl)
theorem dX3_seek_5 : decode cX3_seek 5 = .ok (.aload_n 0, 1) := dk_42 (dk_at dksX3_seek_0 5 rfl rfl)
theorem dX3_seek_6 : decode cX3_seek 6 = .ok (.getfield 117, 3) := dk_180 0 117 (dk_at dksX3_seek_0 6 rfl rfl)
theorem dX3_seek_9 : decode cX3_seek 9 = .ok (.iconst 0, 1) := dk_3 (dk_at dksX3_seek_0 9 rfl rfl)
theorem dX3_seek_10 : decode cX3_seek 10 = .ok (.iconst 0, 1) := dk_3 (dk_at dksX3_seek_0 10 rfl rfl)
theorem dX3_seek_11 : decode cX3_seek 11 = .ok (.iastore, 1) := dk_79 (dk_at dksX3_seek_0 11 rfl rfl)
theorem dX3_seek_12 : decode cX3_seek 12 = .ok (.iconst 1, 1) := dk_4 (dk_at dksX3_seek_0 12 rfl rfl)
theorem dX3_seek_13 : decode cX3_seek 13 = .ok (.istore_n 1, 1) := dk_60 (dk_at dksX3_seek_0 13 rfl rfl)
theorem dX3_seek_14 : decode cX3_seek 14 = .ok (.iload_n 1, 1) := dk_27 (dk_at dksX3_seek_0 14 rfl rfl)
theorem dX3_seek_15 : decode cX3_seek 15 = .ok (.iconst 1, 1) := dk_4 (dk_at dksX3_seek_0 15 rfl rfl)
theorem dX3_seek_16 : decode cX3_seek 16 = .ok (.aload_n 0, 1) := dk_42 (dk_at dksX3_seek_0 16 rfl rfl)
theorem dX3_seek_17 : decode cX3_seek 17 = .ok (.getfield 313, 3) := dk_180 1 57 (dk_at dksX3_seek_0 17 rfl rfl)
theorem dX3_seek_20 : decode cX3_seek 20 = .ok (.ishl, 1) := dk_120 (dk_at dksX3_seek_0 20 rfl rfl)
theorem dX3_seek_21 : decode cX3_seek 21 = .ok (.if_icmp .ge 124, 3) := dk_162 0 124 (dk_at dksX3_seek_0 21 rfl rfl)
theorem dX3_seek_24 : decode cX3_seek 24 = .ok (.aload_n 0, 1) := dk_42 (dk_at dksX3_seek_1 0 rfl rfl)
theorem dX3_seek_25 : decode cX3_seek 25 = .ok (.getfield 117, 3) := dk_180 0 117 (dk_at dksX3_seek_1 1 rfl rfl)
theorem dX3_seek_28 : decode cX3_seek 28 = .ok (.iload_n 1, 1) := dk_27 (dk_at dksX3_seek_1 4 rfl rfl)
theorem dX3_seek_29 : decode cX3_seek 29 = .ok (.ldc_w 316, 3) := dk_19 1 60 (dk_at dksX3_seek_1 5 rfl rfl)
theorem dX3_seek_32 : decode cX3_seek 32 = .ok (.iastore, 1) := dk_79 (dk_at dksX3_seek_1 8 rfl rfl)
theorem dX3_seek_33 : decode cX3_seek 33 = .ok (.iload_n 1, 1) := dk_27 (dk_at dksX3_seek_1 9 rfl rfl)
theorem dX3_seek_34 : decode cX3_seek 34 = .ok (.istore_n 2, 1) := dk_61 (dk_at dksX3_seek_1 10 rfl rfl)
theorem dX3_seek_35 : decode cX3_seek 35 = .ok (.iload_n 2, 1) := dk_28 (dk_at dksX3_seek_1 11 rfl rfl)
theorem dX3_seek_36 : decode cX3_seek 36 = .ok (.ifCond .le 45, 3) := dk_158 0 45 (dk_at dksX3_seek_1 12 rfl rfl)
theorem dX3_seek_39 : decode cX3_seek 39 = .ok (.aload_n 0, 1) := dk_42 (dk_at dksX3_seek_1 15 rfl rfl)
theorem dX3_seek_40 : decode cX3_seek 40 = .ok (.iload_n 1, 1) := dk_27 (dk_at dksX3_seek_1 16 rfl rfl)
theorem dX3_seek_41 : decode cX3_seek 41 = .ok (.iload_n 2, 1) := dk_28 (dk_at dksX3_seek_1 17 rfl rfl)
theorem dX3_seek_42 : decode cX3_seek 42 = .ok (.invokevirtual 329, 3) := dk_182 1 73 (dk_at dksX3_seek_1 18 rfl rfl)
theorem dX3_seek_45 : decode cX3_seek 45 = .ok (.istore_n 3, 1) := dk_62 (dk_at dksX3_seek_1 21 rfl rfl)
theorem dX3_seek_46 : decode cX3_seek 46 = .ok (.aload_n 0, 1) := dk_42 (dk_at dksX3_seek_1 22 rfl rfl)
theorem dX3_seek_47 : decode cX3_seek 47 = .ok (.getfield 117, 3) := dk_180 0 117 (dk_at dksX3_seek_2 0 rfl rfl)
theorem dX3_seek_50 : decode cX3_seek 50 = .ok (.iload_n 1, 1) := dk_27 (dk_at dksX3_seek_2 3 rfl rfl)
theorem dX3_seek_51 : decode cX3_seek 51 = .ok (.iload_n 3, 1) := dk_29 (dk_at dksX3_seek_2 4 rfl rfl)
theorem dX3_seek_52 : decode cX3_seek 52 = .ok (.aload_n 0, 1) := dk_42 (dk_at dksX3_seek_2 5 rfl rfl)
theorem dX3_seek_53 : decode cX3_seek 53 = .ok (.getfield 117, 3) := dk_180 0 117 (dk_at dksX3_seek_2 6 rfl rfl)
theorem dX3_seek_56 : decode cX3_seek 56 = .ok (.iload_n 1, 1) := dk_27 (dk_at dksX3_seek_2 9 rfl rfl)
theorem dX3_seek_57 : decode cX3_seek 57 = .ok (.iaload, 1) := dk_46 (dk_at dksX3_seek_2 10 rfl rfl)
theorem dX3_seek_58 : decode cX3_seek 58 = .ok (.if_icmp .ge 7, 3) := dk_162 0 7 (dk_at dksX3_seek_2 11 rfl rfl)
theorem dX3_seek_61 : decode cX3_seek 61 = .ok (.iload_n 3, 1) := dk_29 (dk_at dksX3_seek_2 14 rfl rfl)
theorem dX3_seek_62 : decode cX3_seek 62 = .ok (.goto 9, 3) := dk_167 0 9 (dk_at dksX3_seek_2 15 rfl rfl)
theorem dX3_seek_65 : decode cX3_seek 65 = .ok (.aload_n 0, 1) := dk_42 (dk_at dksX3_seek_2 18 rfl rfl)
theorem dX3_seek_66 : decode cX3_seek 66 = .ok (.getfield 117, 3) := dk_180 0 117 (dk_at dksX3_seek_2 19 rfl rfl)
theorem dX3_seek_69 : decode cX3_seek 69 = .ok (.iload_n 1, 1) := dk_27 (dk_at dksX3_seek_2 22 rfl rfl)
theorem dX3_seek_70 : decode cX3_seek 70 = .ok (.iaload, 1) := dk_46 (dk_at dksX3_seek_2 23 rfl rfl)
theorem dX3_seek_71 : decode cX3_seek 71 = .ok (.iastore, 1) := dk_79 (dk_at dksX3_seek_3 0 rfl rfl)
theorem dX3_seek_72 : decode cX3_seek 72 = .ok (.iload_n 2, 1) := dk_28 (dk_at dksX3_seek_3 1 rfl rfl)
theorem dX3_seek_73 : decode cX3_seek 73 = .ok (.iconst 1, 1) := dk_4 (dk_at dksX3_seek_3 2 rfl rfl)
theorem dX3_seek_74 : decode cX3_seek 74 = .ok (.isub, 1) := dk_100 (dk_at dksX3_seek_3 3 rfl rfl)
theorem dX3_seek_75 : decode cX3_seek 75 = .ok (.iload_n 1, 1) := dk_27 (dk_at dksX3_seek_3 4 rfl rfl)
theorem dX3_seek_76 : decode cX3_seek 76 = .ok (.iand, 1) := dk_126 (dk_at dksX3_seek_3 5 rfl rfl)
theorem dX3_seek_77 : decode cX3_seek 77 = .ok (.istore_n 2, 1) := dk_61 (dk_at dksX3_seek_3 6 rfl rfl)
theorem dX3_seek_78 : decode cX3_seek 78 = .ok (.goto (-43), 3) := dk_167 255 213 (dk_at dksX3_seek_3 7 rfl rfl)
theorem dX3_seek_81 : decode cX3_seek 81 = .ok (.iload_n 1, 1) := dk_27 (dk_at dksX3_seek_3 10 rfl rfl)
theorem dX3_seek_82 : decode cX3_seek 82 = .ok (.invokestatic 317, 3) := dk_184 1 61 (dk_at dksX3_seek_3 11 rfl rfl)
theorem dX3_seek_85 : decode cX3_seek 85 = .ok (.istore_n 2, 1) := dk_61 (dk_at dksX3_seek_3 14 rfl rfl)
theorem dX3_seek_86 : decode cX3_seek 86 = .ok (.aload_n 0, 1) := dk_42 (dk_at dksX3_seek_3 15 rfl rfl)
theorem dX3_seek_87 : decode cX3_seek 87 = .ok (.getfield 326, 3) := dk_180 1 70 (dk_at dksX3_seek_3 16 rfl rfl)
theorem dX3_seek_90 : decode cX3_seek 90 = .ok (.invokestatic 317, 3) := dk_184 1 61 (dk_at dksX3_seek_3 19 rfl rfl)
theorem dX3_seek_93 : decode cX3_seek 93 = .ok (.istore_n 3, 1) := dk_62 (dk_at dksX3_seek_3 22 rfl rfl)
theorem dX3_seek_94 : decode cX3_seek 94 = .ok (.aload_n 0, 1) := dk_42 (dk_at dksX3_seek_3 23 rfl rfl)
theorem dX3_seek_95 : decode cX3_seek 95 = .ok (.getfield 117, 3) := dk_180 0 117 (dk_at dksX3_seek_4 0 rfl rfl)
theorem dX3_seek_98 : decode cX3_seek 98 = .ok (.iload_n 1, 1) := dk_27 (dk_at dksX3_seek_4 3 rfl rfl)
theorem dX3_seek_99 : decode cX3_seek 99 = .ok (.iaload, 1) := dk_46 (dk_at dksX3_seek_4 4 rfl rfl)
theorem dX3_seek_100 : decode cX3_seek 100 = .ok (.ldc_w 316, 3) := dk_19 1 60 (dk_at dksX3_seek_4 5 rfl rfl)
theorem dX3_seek_103 : decode cX3_seek 103 = .ok (.if_icmp .ge 36, 3) := dk_162 0 36 (dk_at dksX3_seek_4 8 rfl rfl)
theorem dX3_seek_106 : decode cX3_seek 106 = .ok (.iload_n 2, 1) := dk_28 (dk_at dksX3_seek_4 11 rfl rfl)
theorem dX3_seek_107 : decode cX3_seek 107 = .ok (.iload_n 3, 1) := dk_29 (dk_at dksX3_seek_4 12 rfl rfl)
theorem dX3_seek_108 : decode cX3_seek 108 = .ok (.if_icmp .gt 26, 3) := dk_163 0 26 (dk_at dksX3_seek_4 13 rfl rfl)
theorem dX3_seek_111 : decode cX3_seek 111 = .ok (.iload_n 2, 1) := dk_28 (dk_at dksX3_seek_4 16 rfl rfl)
theorem dX3_seek_112 : decode cX3_seek 112 = .ok (.iload_n 3, 1) := dk_29 (dk_at dksX3_seek_4 17 rfl rfl)
theorem dX3_seek_113 : decode cX3_seek 113 = .ok (.if_icmp .ne 26, 3) := dk_160 0 26 (dk_at dksX3_seek_4 18 rfl rfl)
theorem dX3_seek_116 : decode cX3_seek 116 = .ok (.aload_n 0, 1) := dk_42 (dk_at dksX3_seek_4 21 rfl rfl)
theorem dX3_seek_117 : decode cX3_seek 117 = .ok (.getfield 117, 3) := dk_180 0 117 (dk_at dksX3_seek_5 0 rfl rfl)
theorem dX3_seek_120 : decode cX3_seek 120 = .ok (.iload_n 1, 1) := dk_27 (dk_at dksX3_seek_5 3 rfl rfl)
theorem dX3_seek_121 : decode cX3_seek 121 = .ok (.iaload, 1) := dk_46 (dk_at dksX3_seek_5 4 rfl rfl)
theorem dX3_seek_122 : decode cX3_seek 122 = .ok (.aload_n 0, 1) := dk_42 (dk_at dksX3_seek_5 5 rfl rfl)
theorem dX3_seek_123 : decode cX3_seek 123 = .ok (.getfield 117, 3) := dk_180 0 117 (dk_at dksX3_seek_5 6 rfl rfl)
theorem dX3_seek_126 : decode cX3_seek 126 = .ok (.aload_n 0, 1) := dk_42 (dk_at dksX3_seek_5 9 rfl rfl)
theorem dX3_seek_127 : decode cX3_seek 127 = .ok (.getfield 326, 3) := dk_180 1 70 (dk_at dksX3_seek_5 10 rfl rfl)
theorem dX3_seek_130 : decode cX3_seek 130 = .ok (.iaload, 1) := dk_46 (dk_at dksX3_seek_5 13 rfl rfl)
theorem dX3_seek_131 : decode cX3_seek 131 = .ok (.if_icmp .ge 8, 3) := dk_162 0 8 (dk_at dksX3_seek_5 14 rfl rfl)
theorem dX3_seek_134 : decode cX3_seek 134 = .ok (.aload_n 0, 1) := dk_42 (dk_at dksX3_seek_5 17 rfl rfl)
theorem dX3_seek_135 : decode cX3_seek 135 = .ok (.iload_n 1, 1) := dk_27 (dk_at dksX3_seek_5 18 rfl rfl)
theorem dX3_seek_136 : decode cX3_seek 136 = .ok (.putfield 326, 3) := dk_181 1 70 (dk_at dksX3_seek_5 19 rfl rfl)
theorem dX3_seek_139 : decode cX3_seek 139 = .ok (.iinc 1 1, 3) := dk_132 1 1 (dk_at dksX3_seek_6 0 rfl rfl)
theorem dX3_seek_142 : decode cX3_seek 142 = .ok (.goto (-128), 3) := dk_167 255 128 (dk_at dksX3_seek_6 3 rfl rfl)
theorem dX3_seek_145 : decode cX3_seek 145 = .ok (.aload_n 0, 1) := dk_42 (dk_at dksX3_seek_6 6 rfl rfl)
theorem dX3_seek_146 : decode cX3_seek 146 = .ok (.iconst 0, 1) := dk_3 (dk_at dksX3_seek_6 7 rfl rfl)
theorem dX3_seek_147 : decode cX3_seek 147 = .ok (.putfield 332, 3) := dk_181 1 76 (dk_at dksX3_seek_6 8 rfl rfl)
theorem dX3_seek_150 : decode cX3_seek 150 = .ok (.aload_n 0, 1) := dk_42 (dk_at dksX3_seek_6 11 rfl rfl)
theorem dX3_seek_151 : decode cX3_seek 151 = .ok (.getfield 326, 3) := dk_180 1 70 (dk_at dksX3_seek_6 12 rfl rfl)
theorem dX3_seek_154 : decode cX3_seek 154 = .ok (.istore_n 1, 1) := dk_60 (dk_at dksX3_seek_6 15 rfl rfl)
theorem dX3_seek_155 : decode cX3_seek 155 = .ok (.iload_n 1, 1) := dk_27 (dk_at dksX3_seek_6 16 rfl rfl)
theorem dX3_seek_156 : decode cX3_seek 156 = .ok (.ifCond .le 87, 3) := dk_158 0 87 (dk_at dksX3_seek_6 17 rfl rfl)
theorem dX3_seek_159 : decode cX3_seek 159 = .ok (.iconst 1, 1) := dk_4 (dk_at dksX3_seek_6 20 rfl rfl)
theorem dX3_seek_160 : decode cX3_seek 160 = .ok (.istore_n 2, 1) := dk_61 (dk_at dksX3_seek_6 21 rfl rfl)
theorem dX3_seek_161 : decode cX3_seek 161 = .ok (.iload_n 2, 1) := dk_28 (dk_at dksX3_seek_6 22 rfl rfl)
theorem dX3_seek_162 : decode cX3_seek 162 = .ok (.iload_n 1, 1) := dk_27 (dk_at dksX3_seek_6 23 rfl rfl)
theorem dX3_seek_163 : decode cX3_seek 163 = .ok (.iconst (-1), 1) := dk_2 (dk_at dksX3_seek_7 0 rfl rfl)
theorem dX3_seek_164 : decode cX3_seek 164 = .ok (.ixor, 1) := dk_130 (dk_at dksX3_seek_7 1 rfl rfl)
theorem dX3_seek_165 : decode cX3_seek 165 = .ok (.iand, 1) := dk_126 (dk_at dksX3_seek_7 2 rfl rfl)
theorem dX3_seek_166 : decode cX3_seek 166 = .ok (.ifCond .ne 18, 3) := dk_154 0 18 (dk_at dksX3_seek_7 3 rfl rfl)
theorem dX3_seek_169 : decode cX3_seek 169 = .ok (.aload_n 0, 1) := dk_42 (dk_at dksX3_seek_7 6 rfl rfl)
theorem dX3_seek_170 : decode cX3_seek 170 = .ok (.iload_n 1, 1) := dk_27 (dk_at dksX3_seek_7 7 rfl rfl)
theorem dX3_seek_171 : decode cX3_seek 171 = .ok (.iload_n 2, 1) := dk_28 (dk_at dksX3_seek_7 8 rfl rfl)
theorem dX3_seek_172 : decode cX3_seek 172 = .ok (.invokevirtual 329, 3) := dk_182 1 73 (dk_at dksX3_seek_7 9 rfl rfl)
theorem dX3_seek_175 : decode cX3_seek 175 = .ok (.aload_n 0, 1) := dk_42 (dk_at dksX3_seek_7 12 rfl rfl)
theorem dX3_seek_176 : decode cX3_seek 176 = .ok (.getfield 117, 3) := dk_180 0 117 (dk_at dksX3_seek_7 13 rfl rfl)
theorem dX3_seek_179 : decode cX3_seek 179 = .ok (.iload_n 1, 1) := dk_27 (dk_at dksX3_seek_7 16 rfl rfl)
theorem dX3_seek_180 : decode cX3_seek 180 = .ok (.iaload, 1) := dk_46 (dk_at dksX3_seek_7 17 rfl rfl)
theorem dX3_seek_181 : decode cX3_seek 181 = .ok (.if_icmp .eq 9, 3) := dk_159 0 9 (dk_at dksX3_seek_7 18 rfl rfl)
theorem dX3_seek_184 : decode cX3_seek 184 = .ok (.iinc 2 1, 3) := dk_132 2 1 (dk_at dksX3_seek_7 21 rfl rfl)
theorem dX3_seek_187 : decode cX3_seek 187 = .ok (.goto (-26), 3) := dk_167 255 230 (dk_at dksX3_seek_8 0 rfl rfl)
theorem dX3_seek_190 : decode cX3_seek 190 = .ok (.aload_n 0, 1) := dk_42 (dk_at dksX3_seek_8 3 rfl rfl)
theorem dX3_seek_191 : decode cX3_seek 191 = .ok (.getfield 120, 3) := dk_180 0 120 (dk_at dksX3_seek_8 4 rfl rfl)
theorem dX3_seek_194 : decode cX3_seek 194 = .ok (.aload_n 0, 1) := dk_42 (dk_at dksX3_seek_8 7 rfl rfl)
theorem dX3_seek_195 : decode cX3_seek 195 = .ok (.getfield 332, 3) := dk_180 1 76 (dk_at dksX3_seek_8 8 rfl rfl)
theorem dX3_seek_198 : decode cX3_seek 198 = .ok (.iload_n 2, 1) := dk_28 (dk_at dksX3_seek_8 11 rfl rfl)
theorem dX3_seek_199 : decode cX3_seek 199 = .ok (.iastore, 1) := dk_79 (dk_at dksX3_seek_8 12 rfl rfl)
theorem dX3_seek_200 : decode cX3_seek 200 = .ok (.aload_n 0, 1) := dk_42 (dk_at dksX3_seek_8 13 rfl rfl)
theorem dX3_seek_201 : decode cX3_seek 201 = .ok (.getfield 123, 3) := dk_180 0 123 (dk_at dksX3_seek_8 14 rfl rfl)
theorem dX3_seek_204 : decode cX3_seek 204 = .ok (.aload_n 0, 1) := dk_42 (dk_at dksX3_seek_8 17 rfl rfl)
theorem dX3_seek_205 : decode cX3_seek 205 = .ok (.getfield 332, 3) := dk_180 1 76 (dk_at dksX3_seek_8 18 rfl rfl)
theorem dX3_seek_208 : decode cX3_seek 208 = .ok (.aload_n 0, 1) := dk_42 (dk_at dksX3_seek_8 21 rfl rfl)
theorem dX3_seek_209 : decode cX3_seek 209 = .ok (.iload_n 2, 1) := dk_28 (dk_at dksX3_seek_8 22 rfl rfl)
theorem dX3_seek_210 : decode cX3_seek 210 = .ok (.aload_n 0, 1) := dk_42 (dk_at dksX3_seek_8 23 rfl rfl)
theorem dX3_seek_211 : decode cX3_seek 211 = .ok (.getfield 117, 3) := dk_180 0 117 (dk_at dksX3_seek_9 0 rfl rfl)
theorem dX3_seek_214 : decode cX3_seek 214 = .ok (.iload_n 1, 1) := dk_27 (dk_at dksX3_seek_9 3 rfl rfl)
theorem dX3_seek_215 : decode cX3_seek 215 = .ok (.iload_n 2, 1) := dk_28 (dk_at dksX3_seek_9 4 rfl rfl)
theorem dX3_seek_216 : decode cX3_seek 216 = .ok (.iconst (-1), 1) := dk_2 (dk_at dksX3_seek_9 5 rfl rfl)
theorem dX3_seek_217 : decode cX3_seek 217 = .ok (.ixor, 1) := dk_130 (dk_at dksX3_seek_9 6 rfl rfl)
theorem dX3_seek_218 : decode cX3_seek 218 = .ok (.iand, 1) := dk_126 (dk_at dksX3_seek_9 7 rfl rfl)
theorem dX3_seek_219 : decode cX3_seek 219 = .ok (.iaload, 1) := dk_46 (dk_at dksX3_seek_9 8 rfl rfl)
theorem dX3_seek_220 : decode cX3_seek 220 = .ok (.invokevirtual 320, 3) := dk_182 1 64 (dk_at dksX3_seek_9 9 rfl rfl)
theorem dX3_seek_223 : decode cX3_seek 223 = .ok (.iastore, 1) := dk_79 (dk_at dksX3_seek_9 12 rfl rfl)
theorem dX3_seek_224 : decode cX3_seek 224 = .ok (.aload_n 0, 1) := dk_42 (dk_at dksX3_seek_9 13 rfl rfl)
theorem dX3_seek_225 : decode cX3_seek 225 = .ok (.dup, 1) := dk_89 (dk_at dksX3_seek_9 14 rfl rfl)
theorem dX3_seek_226 : decode cX3_seek 226 = .ok (.getfield 332, 3) := dk_180 1 76 (dk_at dksX3_seek_9 15 rfl rfl)
theorem dX3_seek_229 : decode cX3_seek 229 = .ok (.iconst 1, 1) := dk_4 (dk_at dksX3_seek_9 18 rfl rfl)
theorem dX3_seek_230 : decode cX3_seek 230 = .ok (.iadd, 1) := dk_96 (dk_at dksX3_seek_9 19 rfl rfl)
theorem dX3_seek_231 : decode cX3_seek 231 = .ok (.putfield 332, 3) := dk_181 1 76 (dk_at dksX3_seek_9 20 rfl rfl)
theorem dX3_seek_234 : decode cX3_seek 234 = .ok (.iload_n 1, 1) := dk_27 (dk_at dksX3_seek_9 23 rfl rfl)
theorem dX3_seek_235 : decode cX3_seek 235 = .ok (.iload_n 2, 1) := dk_28 (dk_at dksX3_seek_10 0 rfl rfl)
theorem dX3_seek_236 : decode cX3_seek 236 = .ok (.iconst (-1), 1) := dk_2 (dk_at dksX3_seek_10 1 rfl rfl)
theorem dX3_seek_237 : decode cX3_seek 237 = .ok (.ixor, 1) := dk_130 (dk_at dksX3_seek_10 2 rfl rfl)
theorem dX3_seek_238 : decode cX3_seek 238 = .ok (.iand, 1) := dk_126 (dk_at dksX3_seek_10 3 rfl rfl)
theorem dX3_seek_239 : decode cX3_seek 239 = .ok (.istore_n 1, 1) := dk_60 (dk_at dksX3_seek_10 4 rfl rfl)
theorem dX3_seek_240 : decode cX3_seek 240 = .ok (.goto (-85), 3) := dk_167 255 171 (dk_at dksX3_seek_10 5 rfl rfl)
theorem dX3_seek_243 : decode cX3_seek 243 = .ok (.return_, 1) := dk_177 (dk_at dksX3_seek_10 8 rfl rfl)
abbrev cX3_outBy : ByteArray := prog_16_method_55_code
def yX3_outBy : MethodName := ⟨RX3, "outBy", "(II)I"⟩
def dkwX3_outBy_2 : List UInt8 := [42, 28, 182, 1, 67, 96, 172]
abbrev dktX3_outBy_2 : List UInt8 := dkwX3_outBy_2 ++ []
def dkwX3_outBy_1 : List UInt8 := [42, 28, 29, 182, 1, 64, 54, 4, 21, 4, 19, 1, 60, 160, 0, 9, 19, 1, 60, 167, 0, 11, 21, 4]
abbrev dktX3_outBy_1 : List UInt8 := dkwX3_outBy_1 ++ dktX3_outBy_2
def dkwX3_outBy_0 : List UInt8 := [42, 180, 0, 117, 27, 28, 2, 130, 126, 46, 62, 29, 19, 1, 60, 160, 0, 9, 19, 1, 60, 167, 0, 9]
abbrev dktX3_outBy_0 : List UInt8 := dkwX3_outBy_0 ++ dktX3_outBy_1
theorem dksX3_outBy_0 : cX3_outBy.data.toList.drop 0 = dktX3_outBy_0 := by decide +kernel
theorem dksX3_outBy_1 : cX3_outBy.data.toList.drop 24 = dktX3_outBy_1 := dk_seg dksX3_outBy_0 24 rfl rfl
theorem dksX3_outBy_2 : cX3_outBy.data.toList.drop 48 = dktX3_outBy_2 := dk_seg dksX3_outBy_1 24 rfl rfl
theorem dX3_outBy_0 : decode cX3_outBy 0 = .ok (.aload_n 0, 1) := dk_42 (dk_at dksX3_outBy_0 0 rfl rfl)
theorem dX3_outBy_1 : decode cX3_outBy 1 = .ok (.getfield 117, 3) := dk_180 0 117 (dk_at dksX3_outBy_0 1 rfl rfl)
theorem dX3_outBy_4 : decode cX3_outBy 4 = .ok (.iload_n 1, 1) := dk_27 (dk_at dksX3_outBy_0 4 rfl rfl)
theorem dX3_outBy_5 : decode cX3_outBy 5 = .ok (.iload_n 2, 1) := dk_28 (dk_at dksX3_outBy_0 5 rfl rfl)
theorem dX3_outBy_6 : decode cX3_outBy 6 = .ok (.iconst (-1), 1) := dk_2 (dk_at dksX3_outBy_0 6 rfl rfl)
theorem dX3_outBy_7 : decode cX3_outBy 7 = .ok (.ixor, 1) := dk_130 (dk_at dksX3_outBy_0 7 rfl rfl)
theorem dX3_outBy_8 : decode cX3_outBy 8 = .ok (.iand, 1) := dk_126 (dk_at dksX3_outBy_0 8 rfl rfl)
theorem dX3_outBy_9 : decode cX3_outBy 9 = .ok (.iaload, 1) := dk_46 (dk_at dksX3_outBy_0 9 rfl rfl)
theorem dX3_outBy_10 : decode cX3_outBy 10 = .ok (.istore_n 3, 1) := dk_62 (dk_at dksX3_outBy_0 10 rfl rfl)
theorem dX3_outBy_11 : decode cX3_outBy 11 = .ok (.iload_n 3, 1) := dk_29 (dk_at dksX3_outBy_0 11 rfl rfl)
theorem dX3_outBy_12 : decode cX3_outBy 12 = .ok (.ldc_w 316, 3) := dk_19 1 60 (dk_at dksX3_outBy_0 12 rfl rfl)
theorem dX3_outBy_15 : decode cX3_outBy 15 = .ok (.if_icmp .ne 9, 3) := dk_160 0 9 (dk_at dksX3_outBy_0 15 rfl rfl)
theorem dX3_outBy_18 : decode cX3_outBy 18 = .ok (.ldc_w 316, 3) := dk_19 1 60 (dk_at dksX3_outBy_0 18 rfl rfl)
theorem dX3_outBy_21 : decode cX3_outBy 21 = .ok (.goto 9, 3) := dk_167 0 9 (dk_at dksX3_outBy_0 21 rfl rfl)
theorem dX3_outBy_24 : decode cX3_outBy 24 = .ok (.aload_n 0, 1) := dk_42 (dk_at dksX3_outBy_1 0 rfl rfl)
theorem dX3_outBy_25 : decode cX3_outBy 25 = .ok (.iload_n 2, 1) := dk_28 (dk_at dksX3_outBy_1 1 rfl rfl)
theorem dX3_outBy_26 : decode cX3_outBy 26 = .ok (.iload_n 3, 1) := dk_29 (dk_at dksX3_outBy_1 2 rfl rfl)
theorem dX3_outBy_27 : decode cX3_outBy 27 = .ok (.invokevirtual 320, 3) := dk_182 1 64 (dk_at dksX3_outBy_1 3 rfl rfl)
theorem dX3_outBy_30 : decode cX3_outBy 30 = .ok (.istore 4, 2) := dk_54 4 (dk_at dksX3_outBy_1 6 rfl rfl)
theorem dX3_outBy_32 : decode cX3_outBy 32 = .ok (.iload 4, 2) := dk_21 4 (dk_at dksX3_outBy_1 8 rfl rfl)
theorem dX3_outBy_34 : decode cX3_outBy 34 = .ok (.ldc_w 316, 3) := dk_19 1 60 (dk_at dksX3_outBy_1 10 rfl rfl)
theorem dX3_outBy_37 : decode cX3_outBy 37 = .ok (.if_icmp .ne 9, 3) := dk_160 0 9 (dk_at dksX3_outBy_1 13 rfl rfl)
theorem dX3_outBy_40 : decode cX3_outBy 40 = .ok (.ldc_w 316, 3) := dk_19 1 60 (dk_at dksX3_outBy_1 16 rfl rfl)
theorem dX3_outBy_43 : decode cX3_outBy 43 = .ok (.goto 11, 3) := dk_167 0 11 (dk_at dksX3_outBy_1 19 rfl rfl)
theorem dX3_outBy_46 : decode cX3_outBy 46 = .ok (.iload 4, 2) := dk_21 4 (dk_at dksX3_outBy_1 22 rfl rfl)
theorem dX3_outBy_48 : decode cX3_outBy 48 = .ok (.aload_n 0, 1) := dk_42 (dk_at dksX3_outBy_2 0 rfl rfl)
theorem dX3_outBy_49 : decode cX3_outBy 49 = .ok (.iload_n 2, 1) := dk_28 (dk_at dksX3_outBy_2 1 rfl rfl)
theorem dX3_outBy_50 : decode cX3_outBy 50 = .ok (.invokevirtual 323, 3) := dk_182 1 67 (dk_at dksX3_outBy_2 2 rfl rfl)
theorem dX3_outBy_53 : decode cX3_outBy 53 = .ok (.iadd, 1) := dk_96 (dk_at dksX3_outBy_2 5 rfl rfl)
theorem dX3_outBy_54 : decode cX3_outBy 54 = .ok (.ireturn, 1) := dk_172 (dk_at dksX3_outBy_2 6 rfl rfl)
abbrev cX3_putIn : ByteArray := prog_16_method_53_code
def yX3_putIn : MethodName := ⟨RX3, "putIn", "(II)I"⟩
def dkwX3_putIn_7 : List UInt8 := [153, 0, 19, 21, 7, 29, 100, 42, 180, 0, 108, 163, 0, 8, 21, 7, 167, 0, 6, 19, 1, 60, 172]
abbrev dktX3_putIn_7 : List UInt8 := dkwX3_putIn_7 ++ []
def dkwX3_putIn_6 : List UInt8 := [132, 7, 1, 167, 255, 145, 28, 21, 4, 164, 0, 7, 28, 167, 0, 5, 21, 4, 54, 7, 21, 6]
abbrev dktX3_putIn_6 : List UInt8 := dkwX3_putIn_6 ++ dktX3_putIn_7
def dkwX3_putIn_5 : List UInt8 := [21, 7, 46, 21, 4, 164, 0, 13, 42, 180, 0, 114, 21, 7, 46, 167, 0, 5, 21, 4, 54, 4]
abbrev dktX3_putIn_5 : List UInt8 := dkwX3_putIn_5 ++ dktX3_putIn_6
def dkwX3_putIn_4 : List UInt8 := [21, 7, 46, 29, 162, 0, 13, 42, 180, 0, 114, 21, 7, 46, 167, 0, 4, 29, 62, 42, 180, 0, 114]
abbrev dktX3_putIn_4 : List UInt8 := dkwX3_putIn_4 ++ dktX3_putIn_5
def dkwX3_putIn_3 : List UInt8 := [46, 160, 0, 7, 4, 167, 0, 4, 3, 54, 6, 42, 180, 0, 111, 21, 7, 46, 54, 5, 42, 180, 0, 114]
abbrev dktX3_putIn_3 : List UInt8 := dkwX3_putIn_3 ++ dktX3_putIn_4
def dkwX3_putIn_2 : List UInt8 := [154, 0, 6, 167, 0, 90, 21, 6, 153, 0, 24, 21, 5, 155, 0, 15, 21, 5, 42, 180, 0, 111, 21, 7]
abbrev dktX3_putIn_2 : List UInt8 := dkwX3_putIn_2 ++ dktX3_putIn_3
def dkwX3_putIn_1 : List UInt8 := [167, 0, 4, 3, 54, 6, 3, 54, 7, 21, 7, 42, 180, 1, 57, 162, 0, 108, 27, 21, 7, 122, 4, 126]
abbrev dktX3_putIn_1 : List UInt8 := dkwX3_putIn_1 ++ dktX3_putIn_2
def dkwX3_putIn_0 : List UInt8 := [19, 1, 60, 62, 3, 54, 4, 2, 54, 5, 27, 184, 1, 61, 42, 180, 0, 99, 163, 0, 7, 4]
abbrev dktX3_putIn_0 : List UInt8 := dkwX3_putIn_0 ++ dktX3_putIn_1
theorem dksX3_putIn_0 : cX3_putIn.data.toList.drop 0 = dktX3_putIn_0 := by decide +kernel
theorem dksX3_putIn_1 : cX3_putIn.data.toList.drop 22 = dktX3_putIn_1 := dk_seg dksX3_putIn_0 22 rfl rfl
theorem dksX3_putIn_2 : cX3_putIn.data.toList.drop 46 = dktX3_putIn_2 := dk_seg dksX3_putIn_1 24 rfl rfl
theorem dksX3_putIn_3 : cX3_putIn.data.toList.drop 70 = dktX3_putIn_3 := dk_seg dksX3_putIn_2 24 rfl rfl
theorem dksX3_putIn_4 : cX3_putIn.data.toList.drop 94 = dktX3_putIn_4 := dk_seg dksX3_putIn_3 24 rfl rfl
theorem dksX3_putIn_5 : cX3_putIn.data.toList.drop 117 = dktX3_putIn_5 := dk_seg dksX3_putIn_4 23 rfl rfl
theorem dksX3_putIn_6 : cX3_putIn.data.toList.drop 139 = dktX3_putIn_6 := dk_seg dksX3_putIn_5 22 rfl rfl
theorem dksX3_putIn_7 : cX3_putIn.data.toList.drop 161 = dktX3_putIn_7 := dk_seg dksX3_putIn_6 22 rfl rfl
theorem dX3_putIn_0 : decode cX3_putIn 0 = .ok (.ldc_w 316, 3) := dk_19 1 60 (dk_at dksX3_putIn_0 0 rfl rfl)
theorem dX3_putIn_3 : decode cX3_putIn 3 = .ok (.istore_n 3, 1) := dk_62 (dk_at dksX3_putIn_0 3 rfl rfl)
theorem dX3_putIn_4 : decode cX3_putIn 4 = .ok (.iconst 0, 1) := dk_3 (dk_at dksX3_putIn_0 4 rfl rfl)
theorem dX3_putIn_5 : decode cX3_putIn 5 = .ok (.istore 4, 2) := dk_54 4 (dk_at dksX3_putIn_0 5 rfl rfl)
theorem dX3_putIn_7 : decode cX3_putIn 7 = .ok (.iconst (-1), 1) := dk_2 (dk_at dksX3_putIn_0 7 rfl rfl)
theorem dX3_putIn_8 : decode cX3_putIn 8 = .ok (.istore 5, 2) := dk_54 5 (dk_at dksX3_putIn_0 8 rfl rfl)
theorem dX3_putIn_10 : decode cX3_putIn 10 = .ok (.iload_n 1, 1) := dk_27 (dk_at dksX3_putIn_0 10 rfl rfl)
theorem dX3_putIn_11 : decode cX3_putIn 11 = .ok (.invokestatic 317, 3) := dk_184 1 61 (dk_at dksX3_putIn_0 11 rfl rfl)
theorem dX3_putIn_14 : decode cX3_putIn 14 = .ok (.aload_n 0, 1) := dk_42 (dk_at dksX3_putIn_0 14 rfl rfl)
theorem dX3_putIn_15 : decode cX3_putIn 15 = .ok (.getfield 99, 3) := dk_180 0 99 (dk_at dksX3_putIn_0 15 rfl rfl)
theorem dX3_putIn_18 : decode cX3_putIn 18 = .ok (.if_icmp .gt 7, 3) := dk_163 0 7 (dk_at dksX3_putIn_0 18 rfl rfl)
theorem dX3_putIn_21 : decode cX3_putIn 21 = .ok (.iconst 1, 1) := dk_4 (dk_at dksX3_putIn_0 21 rfl rfl)
theorem dX3_putIn_22 : decode cX3_putIn 22 = .ok (.goto 4, 3) := dk_167 0 4 (dk_at dksX3_putIn_1 0 rfl rfl)
theorem dX3_putIn_25 : decode cX3_putIn 25 = .ok (.iconst 0, 1) := dk_3 (dk_at dksX3_putIn_1 3 rfl rfl)
theorem dX3_putIn_26 : decode cX3_putIn 26 = .ok (.istore 6, 2) := dk_54 6 (dk_at dksX3_putIn_1 4 rfl rfl)
theorem dX3_putIn_28 : decode cX3_putIn 28 = .ok (.iconst 0, 1) := dk_3 (dk_at dksX3_putIn_1 6 rfl rfl)
theorem dX3_putIn_29 : decode cX3_putIn 29 = .ok (.istore 7, 2) := dk_54 7 (dk_at dksX3_putIn_1 7 rfl rfl)
theorem dX3_putIn_31 : decode cX3_putIn 31 = .ok (.iload 7, 2) := dk_21 7 (dk_at dksX3_putIn_1 9 rfl rfl)
theorem dX3_putIn_33 : decode cX3_putIn 33 = .ok (.aload_n 0, 1) := dk_42 (dk_at dksX3_putIn_1 11 rfl rfl)
theorem dX3_putIn_34 : decode cX3_putIn 34 = .ok (.getfield 313, 3) := dk_180 1 57 (dk_at dksX3_putIn_1 12 rfl rfl)
theorem dX3_putIn_37 : decode cX3_putIn 37 = .ok (.if_icmp .ge 108, 3) := dk_162 0 108 (dk_at dksX3_putIn_1 15 rfl rfl)
theorem dX3_putIn_40 : decode cX3_putIn 40 = .ok (.iload_n 1, 1) := dk_27 (dk_at dksX3_putIn_1 18 rfl rfl)
theorem dX3_putIn_41 : decode cX3_putIn 41 = .ok (.iload 7, 2) := dk_21 7 (dk_at dksX3_putIn_1 19 rfl rfl)
theorem dX3_putIn_43 : decode cX3_putIn 43 = .ok (.ishr, 1) := dk_122 (dk_at dksX3_putIn_1 21 rfl rfl)
theorem dX3_putIn_44 : decode cX3_putIn 44 = .ok (.iconst 1, 1) := dk_4 (dk_at dksX3_putIn_1 22 rfl rfl)
theorem dX3_putIn_45 : decode cX3_putIn 45 = .ok (.iand, 1) := dk_126 (dk_at dksX3_putIn_1 23 rfl rfl)
theorem dX3_putIn_46 : decode cX3_putIn 46 = .ok (.ifCond .ne 6, 3) := dk_154 0 6 (dk_at dksX3_putIn_2 0 rfl rfl)
theorem dX3_putIn_49 : decode cX3_putIn 49 = .ok (.goto 90, 3) := dk_167 0 90 (dk_at dksX3_putIn_2 3 rfl rfl)
theorem dX3_putIn_52 : decode cX3_putIn 52 = .ok (.iload 6, 2) := dk_21 6 (dk_at dksX3_putIn_2 6 rfl rfl)
theorem dX3_putIn_54 : decode cX3_putIn 54 = .ok (.ifCond .eq 24, 3) := dk_153 0 24 (dk_at dksX3_putIn_2 8 rfl rfl)
theorem dX3_putIn_57 : decode cX3_putIn 57 = .ok (.iload 5, 2) := dk_21 5 (dk_at dksX3_putIn_2 11 rfl rfl)
theorem dX3_putIn_59 : decode cX3_putIn 59 = .ok (.ifCond .lt 15, 3) := dk_155 0 15 (dk_at dksX3_putIn_2 13 rfl rfl)
theorem dX3_putIn_62 : decode cX3_putIn 62 = .ok (.iload 5, 2) := dk_21 5 (dk_at dksX3_putIn_2 16 rfl rfl)
theorem dX3_putIn_64 : decode cX3_putIn 64 = .ok (.aload_n 0, 1) := dk_42 (dk_at dksX3_putIn_2 18 rfl rfl)
theorem dX3_putIn_65 : decode cX3_putIn 65 = .ok (.getfield 111, 3) := dk_180 0 111 (dk_at dksX3_putIn_2 19 rfl rfl)
theorem dX3_putIn_68 : decode cX3_putIn 68 = .ok (.iload 7, 2) := dk_21 7 (dk_at dksX3_putIn_2 22 rfl rfl)
theorem dX3_putIn_70 : decode cX3_putIn 70 = .ok (.iaload, 1) := dk_46 (dk_at dksX3_putIn_3 0 rfl rfl)
theorem dX3_putIn_71 : decode cX3_putIn 71 = .ok (.if_icmp .ne 7, 3) := dk_160 0 7 (dk_at dksX3_putIn_3 1 rfl rfl)
theorem dX3_putIn_74 : decode cX3_putIn 74 = .ok (.iconst 1, 1) := dk_4 (dk_at dksX3_putIn_3 4 rfl rfl)
theorem dX3_putIn_75 : decode cX3_putIn 75 = .ok (.goto 4, 3) := dk_167 0 4 (dk_at dksX3_putIn_3 5 rfl rfl)
theorem dX3_putIn_78 : decode cX3_putIn 78 = .ok (.iconst 0, 1) := dk_3 (dk_at dksX3_putIn_3 8 rfl rfl)
theorem dX3_putIn_79 : decode cX3_putIn 79 = .ok (.istore 6, 2) := dk_54 6 (dk_at dksX3_putIn_3 9 rfl rfl)
theorem dX3_putIn_81 : decode cX3_putIn 81 = .ok (.aload_n 0, 1) := dk_42 (dk_at dksX3_putIn_3 11 rfl rfl)
theorem dX3_putIn_82 : decode cX3_putIn 82 = .ok (.getfield 111, 3) := dk_180 0 111 (dk_at dksX3_putIn_3 12 rfl rfl)
theorem dX3_putIn_85 : decode cX3_putIn 85 = .ok (.iload 7, 2) := dk_21 7 (dk_at dksX3_putIn_3 15 rfl rfl)
theorem dX3_putIn_87 : decode cX3_putIn 87 = .ok (.iaload, 1) := dk_46 (dk_at dksX3_putIn_3 17 rfl rfl)
theorem dX3_putIn_88 : decode cX3_putIn 88 = .ok (.istore 5, 2) := dk_54 5 (dk_at dksX3_putIn_3 18 rfl rfl)
theorem dX3_putIn_90 : decode cX3_putIn 90 = .ok (.aload_n 0, 1) := dk_42 (dk_at dksX3_putIn_3 20 rfl rfl)
theorem dX3_putIn_91 : decode cX3_putIn 91 = .ok (.getfield 114, 3) := dk_180 0 114 (dk_at dksX3_putIn_3 21 rfl rfl)
theorem dX3_putIn_94 : decode cX3_putIn 94 = .ok (.iload 7, 2) := dk_21 7 (dk_at dksX3_putIn_4 0 rfl rfl)
theorem dX3_putIn_96 : decode cX3_putIn 96 = .ok (.iaload, 1) := dk_46 (dk_at dksX3_putIn_4 2 rfl rfl)
theorem dX3_putIn_97 : decode cX3_putIn 97 = .ok (.iload_n 3, 1) := dk_29 (dk_at dksX3_putIn_4 3 rfl rfl)
theorem dX3_putIn_98 : decode cX3_putIn 98 = .ok (.if_icmp .ge 13, 3) := dk_162 0 13 (dk_at dksX3_putIn_4 4 rfl rfl)
theorem dX3_putIn_101 : decode cX3_putIn 101 = .ok (.aload_n 0, 1) := dk_42 (dk_at dksX3_putIn_4 7 rfl rfl)
theorem dX3_putIn_102 : decode cX3_putIn 102 = .ok (.getfield 114, 3) := dk_180 0 114 (dk_at dksX3_putIn_4 8 rfl rfl)
theorem dX3_putIn_105 : decode cX3_putIn 105 = .ok (.iload 7, 2) := dk_21 7 (dk_at dksX3_putIn_4 11 rfl rfl)
theorem dX3_putIn_107 : decode cX3_putIn 107 = .ok (.iaload, 1) := dk_46 (dk_at dksX3_putIn_4 13 rfl rfl)
theorem dX3_putIn_108 : decode cX3_putIn 108 = .ok (.goto 4, 3) := dk_167 0 4 (dk_at dksX3_putIn_4 14 rfl rfl)
theorem dX3_putIn_111 : decode cX3_putIn 111 = .ok (.iload_n 3, 1) := dk_29 (dk_at dksX3_putIn_4 17 rfl rfl)
theorem dX3_putIn_112 : decode cX3_putIn 112 = .ok (.istore_n 3, 1) := dk_62 (dk_at dksX3_putIn_4 18 rfl rfl)
theorem dX3_putIn_113 : decode cX3_putIn 113 = .ok (.aload_n 0, 1) := dk_42 (dk_at dksX3_putIn_4 19 rfl rfl)
theorem dX3_putIn_114 : decode cX3_putIn 114 = .ok (.getfield 114, 3) := dk_180 0 114 (dk_at dksX3_putIn_4 20 rfl rfl)
theorem dX3_putIn_117 : decode cX3_putIn 117 = .ok (.iload 7, 2) := dk_21 7 (dk_at dksX3_putIn_5 0 rfl rfl)
theorem dX3_putIn_119 : decode cX3_putIn 119 = .ok (.iaload, 1) := dk_46 (dk_at dksX3_putIn_5 2 rfl rfl)
theorem dX3_putIn_120 : decode cX3_putIn 120 = .ok (.iload 4, 2) := dk_21 4 (dk_at dksX3_putIn_5 3 rfl rfl)
theorem dX3_putIn_122 : decode cX3_putIn 122 = .ok (.if_icmp .le 13, 3) := dk_164 0 13 (dk_at dksX3_putIn_5 5 rfl rfl)
theorem dX3_putIn_125 : decode cX3_putIn 125 = .ok (.aload_n 0, 1) := dk_42 (dk_at dksX3_putIn_5 8 rfl rfl)
theorem dX3_putIn_126 : decode cX3_putIn 126 = .ok (.getfield 114, 3) := dk_180 0 114 (dk_at dksX3_putIn_5 9 rfl rfl)
theorem dX3_putIn_129 : decode cX3_putIn 129 = .ok (.iload 7, 2) := dk_21 7 (dk_at dksX3_putIn_5 12 rfl rfl)
theorem dX3_putIn_131 : decode cX3_putIn 131 = .ok (.iaload, 1) := dk_46 (dk_at dksX3_putIn_5 14 rfl rfl)
theorem dX3_putIn_132 : decode cX3_putIn 132 = .ok (.goto 5, 3) := dk_167 0 5 (dk_at dksX3_putIn_5 15 rfl rfl)
theorem dX3_putIn_135 : decode cX3_putIn 135 = .ok (.iload 4, 2) := dk_21 4 (dk_at dksX3_putIn_5 18 rfl rfl)
theorem dX3_putIn_137 : decode cX3_putIn 137 = .ok (.istore 4, 2) := dk_54 4 (dk_at dksX3_putIn_5 20 rfl rfl)
theorem dX3_putIn_139 : decode cX3_putIn 139 = .ok (.iinc 7 1, 3) := dk_132 7 1 (dk_at dksX3_putIn_6 0 rfl rfl)
theorem dX3_putIn_142 : decode cX3_putIn 142 = .ok (.goto (-111), 3) := dk_167 255 145 (dk_at dksX3_putIn_6 3 rfl rfl)
theorem dX3_putIn_145 : decode cX3_putIn 145 = .ok (.iload_n 2, 1) := dk_28 (dk_at dksX3_putIn_6 6 rfl rfl)
theorem dX3_putIn_146 : decode cX3_putIn 146 = .ok (.iload 4, 2) := dk_21 4 (dk_at dksX3_putIn_6 7 rfl rfl)
theorem dX3_putIn_148 : decode cX3_putIn 148 = .ok (.if_icmp .le 7, 3) := dk_164 0 7 (dk_at dksX3_putIn_6 9 rfl rfl)
theorem dX3_putIn_151 : decode cX3_putIn 151 = .ok (.iload_n 2, 1) := dk_28 (dk_at dksX3_putIn_6 12 rfl rfl)
theorem dX3_putIn_152 : decode cX3_putIn 152 = .ok (.goto 5, 3) := dk_167 0 5 (dk_at dksX3_putIn_6 13 rfl rfl)
theorem dX3_putIn_155 : decode cX3_putIn 155 = .ok (.iload 4, 2) := dk_21 4 (dk_at dksX3_putIn_6 16 rfl rfl)
theorem dX3_putIn_157 : decode cX3_putIn 157 = .ok (.istore 7, 2) := dk_54 7 (dk_at dksX3_putIn_6 18 rfl rfl)
theorem dX3_putIn_159 : decode cX3_putIn 159 = .ok (.iload 6, 2) := dk_21 6 (dk_at dksX3_putIn_6 20 rfl rfl)
theorem dX3_putIn_161 : decode cX3_putIn 161 = .ok (.ifCond .eq 19, 3) := dk_153 0 19 (dk_at dksX3_putIn_7 0 rfl rfl)
theorem dX3_putIn_164 : decode cX3_putIn 164 = .ok (.iload 7, 2) := dk_21 7 (dk_at dksX3_putIn_7 3 rfl rfl)
theorem dX3_putIn_166 : decode cX3_putIn 166 = .ok (.iload_n 3, 1) := dk_29 (dk_at dksX3_putIn_7 5 rfl rfl)
theorem dX3_putIn_167 : decode cX3_putIn 167 = .ok (.isub, 1) := dk_100 (dk_at dksX3_putIn_7 6 rfl rfl)
theorem dX3_putIn_168 : decode cX3_putIn 168 = .ok (.aload_n 0, 1) := dk_42 (dk_at dksX3_putIn_7 7 rfl rfl)
theorem dX3_putIn_169 : decode cX3_putIn 169 = .ok (.getfield 108, 3) := dk_180 0 108 (dk_at dksX3_putIn_7 8 rfl rfl)
theorem dX3_putIn_172 : decode cX3_putIn 172 = .ok (.if_icmp .gt 8, 3) := dk_163 0 8 (dk_at dksX3_putIn_7 11 rfl rfl)
theorem dX3_putIn_175 : decode cX3_putIn 175 = .ok (.iload 7, 2) := dk_21 7 (dk_at dksX3_putIn_7 14 rfl rfl)
theorem dX3_putIn_177 : decode cX3_putIn 177 = .ok (.goto 6, 3) := dk_167 0 6 (dk_at dksX3_putIn_7 16 rfl rfl)
theorem dX3_putIn_180 : decode cX3_putIn 180 = .ok (.ldc_w 316, 3) := dk_19 1 60 (dk_at dksX3_putIn_7 19 rfl rfl)
theorem dX3_putIn_183 : decode cX3_putIn 183 = .ok (.ireturn, 1) := dk_172 (dk_at dksX3_putIn_7 22 rfl rfl)
abbrev cX3_many : ByteArray := prog_16_method_52_code
def yX3_many : MethodName := ⟨RX3, "many", "(I)I"⟩
def dkwX3_many_1 : List UInt8 := [27, 172]
abbrev dktX3_many_1 : List UInt8 := dkwX3_many_1 ++ []
def dkwX3_many_0 : List UInt8 := [3, 60, 3, 61, 28, 16, 10, 162, 0, 17, 27, 26, 28, 122, 4, 126, 96, 60, 132, 2, 1, 167, 255, 239]
abbrev dktX3_many_0 : List UInt8 := dkwX3_many_0 ++ dktX3_many_1
theorem dksX3_many_0 : cX3_many.data.toList.drop 0 = dktX3_many_0 := by decide +kernel
theorem dksX3_many_1 : cX3_many.data.toList.drop 24 = dktX3_many_1 := dk_seg dksX3_many_0 24 rfl rfl
theorem dX3_many_0 : decode cX3_many 0 = .ok (.iconst 0, 1) := dk_3 (dk_at dksX3_many_0 0 rfl rfl)
theorem dX3_many_1 : decode cX3_many 1 = .ok (.istore_n 1, 1) := dk_60 (dk_at dksX3_many_0 1 rfl rfl)
theorem dX3_many_2 : decode cX3_many 2 = .ok (.iconst 0, 1) := dk_3 (dk_at dksX3_many_0 2 rfl rfl)
theorem dX3_many_3 : decode cX3_many 3 = .ok (.istore_n 2, 1) := dk_61 (dk_at dksX3_many_0 3 rfl rfl)
theorem dX3_many_4 : decode cX3_many 4 = .ok (.iload_n 2, 1) := dk_28 (dk_at dksX3_many_0 4 rfl rfl)
theorem dX3_many_5 : decode cX3_many 5 = .ok (.bipush 10, 2) := dk_16 10 (dk_at dksX3_many_0 5 rfl rfl)
theorem dX3_many_7 : decode cX3_many 7 = .ok (.if_icmp .ge 17, 3) := dk_162 0 17 (dk_at dksX3_many_0 7 rfl rfl)
theorem dX3_many_10 : decode cX3_many 10 = .ok (.iload_n 1, 1) := dk_27 (dk_at dksX3_many_0 10 rfl rfl)
theorem dX3_many_11 : decode cX3_many 11 = .ok (.iload_n 0, 1) := dk_26 (dk_at dksX3_many_0 11 rfl rfl)
theorem dX3_many_12 : decode cX3_many 12 = .ok (.iload_n 2, 1) := dk_28 (dk_at dksX3_many_0 12 rfl rfl)
theorem dX3_many_13 : decode cX3_many 13 = .ok (.ishr, 1) := dk_122 (dk_at dksX3_many_0 13 rfl rfl)
theorem dX3_many_14 : decode cX3_many 14 = .ok (.iconst 1, 1) := dk_4 (dk_at dksX3_many_0 14 rfl rfl)
theorem dX3_many_15 : decode cX3_many 15 = .ok (.iand, 1) := dk_126 (dk_at dksX3_many_0 15 rfl rfl)
theorem dX3_many_16 : decode cX3_many 16 = .ok (.iadd, 1) := dk_96 (dk_at dksX3_many_0 16 rfl rfl)
theorem dX3_many_17 : decode cX3_many 17 = .ok (.istore_n 1, 1) := dk_60 (dk_at dksX3_many_0 17 rfl rfl)
theorem dX3_many_18 : decode cX3_many 18 = .ok (.iinc 2 1, 3) := dk_132 2 1 (dk_at dksX3_many_0 18 rfl rfl)
theorem dX3_many_21 : decode cX3_many 21 = .ok (.goto (-17), 3) := dk_167 255 239 (dk_at dksX3_many_0 21 rfl rfl)
theorem dX3_many_24 : decode cX3_many 24 = .ok (.iload_n 1, 1) := dk_27 (dk_at dksX3_many_1 0 rfl rfl)
theorem dX3_many_25 : decode cX3_many 25 = .ok (.ireturn, 1) := dk_172 (dk_at dksX3_many_1 1 rfl rfl)
abbrev cX3_lasts : ByteArray := prog_16_method_54_code
def yX3_lasts : MethodName := ⟨RX3, "lasts", "(I)I"⟩
def dkwX3_lasts_1 : List UInt8 := [42, 180, 0, 111, 28, 46, 104, 96, 172]
abbrev dktX3_lasts_1 : List UInt8 := dkwX3_lasts_1 ++ []
def dkwX3_lasts_0 : List UInt8 := [3, 61, 27, 28, 122, 4, 126, 154, 0, 9, 132, 2, 1, 167, 255, 245, 42, 180, 0, 102, 42, 180, 0, 105]
abbrev dktX3_lasts_0 : List UInt8 := dkwX3_lasts_0 ++ dktX3_lasts_1
theorem dksX3_lasts_0 : cX3_lasts.data.toList.drop 0 = dktX3_lasts_0 := by decide +kernel
theorem dksX3_lasts_1 : cX3_lasts.data.toList.drop 24 = dktX3_lasts_1 := dk_seg dksX3_lasts_0 24 rfl rfl
theorem dX3_lasts_0 : decode cX3_lasts 0 = .ok (.iconst 0, 1) := dk_3 (dk_at dksX3_lasts_0 0 rfl rfl)
theorem dX3_lasts_1 : decode cX3_lasts 1 = .ok (.istore_n 2, 1) := dk_61 (dk_at dksX3_lasts_0 1 rfl rfl)
theorem dX3_lasts_2 : decode cX3_lasts 2 = .ok (.iload_n 1, 1) := dk_27 (dk_at dksX3_lasts_0 2 rfl rfl)
theorem dX3_lasts_3 : decode cX3_lasts 3 = .ok (.iload_n 2, 1) := dk_28 (dk_at dksX3_lasts_0 3 rfl rfl)
theorem dX3_lasts_4 : decode cX3_lasts 4 = .ok (.ishr, 1) := dk_122 (dk_at dksX3_lasts_0 4 rfl rfl)
theorem dX3_lasts_5 : decode cX3_lasts 5 = .ok (.iconst 1, 1) := dk_4 (dk_at dksX3_lasts_0 5 rfl rfl)
theorem dX3_lasts_6 : decode cX3_lasts 6 = .ok (.iand, 1) := dk_126 (dk_at dksX3_lasts_0 6 rfl rfl)
theorem dX3_lasts_7 : decode cX3_lasts 7 = .ok (.ifCond .ne 9, 3) := dk_154 0 9 (dk_at dksX3_lasts_0 7 rfl rfl)
theorem dX3_lasts_10 : decode cX3_lasts 10 = .ok (.iinc 2 1, 3) := dk_132 2 1 (dk_at dksX3_lasts_0 10 rfl rfl)
theorem dX3_lasts_13 : decode cX3_lasts 13 = .ok (.goto (-11), 3) := dk_167 255 245 (dk_at dksX3_lasts_0 13 rfl rfl)
theorem dX3_lasts_16 : decode cX3_lasts 16 = .ok (.aload_n 0, 1) := dk_42 (dk_at dksX3_lasts_0 16 rfl rfl)
theorem dX3_lasts_17 : decode cX3_lasts 17 = .ok (.getfield 102, 3) := dk_180 0 102 (dk_at dksX3_lasts_0 17 rfl rfl)
theorem dX3_lasts_20 : decode cX3_lasts 20 = .ok (.aload_n 0, 1) := dk_42 (dk_at dksX3_lasts_0 20 rfl rfl)
theorem dX3_lasts_21 : decode cX3_lasts 21 = .ok (.getfield 105, 3) := dk_180 0 105 (dk_at dksX3_lasts_0 21 rfl rfl)
theorem dX3_lasts_24 : decode cX3_lasts 24 = .ok (.aload_n 0, 1) := dk_42 (dk_at dksX3_lasts_1 0 rfl rfl)
theorem dX3_lasts_25 : decode cX3_lasts 25 = .ok (.getfield 111, 3) := dk_180 0 111 (dk_at dksX3_lasts_1 1 rfl rfl)
theorem dX3_lasts_28 : decode cX3_lasts 28 = .ok (.iload_n 2, 1) := dk_28 (dk_at dksX3_lasts_1 4 rfl rfl)
theorem dX3_lasts_29 : decode cX3_lasts 29 = .ok (.iaload, 1) := dk_46 (dk_at dksX3_lasts_1 5 rfl rfl)
theorem dX3_lasts_30 : decode cX3_lasts 30 = .ok (.imul, 1) := dk_104 (dk_at dksX3_lasts_1 6 rfl rfl)
theorem dX3_lasts_31 : decode cX3_lasts 31 = .ok (.iadd, 1) := dk_96 (dk_at dksX3_lasts_1 7 rfl rfl)
theorem dX3_lasts_32 : decode cX3_lasts 32 = .ok (.ireturn, 1) := dk_172 (dk_at dksX3_lasts_1 8 rfl rfl)
abbrev cX3_load : ByteArray := prog_16_method_58_code
def yX3_load : MethodName := ⟨RX3, "load", "(II)I"⟩
def dkwX3_load_2 : List UInt8 := [180, 0, 123, 42, 180, 1, 76, 4, 100, 27, 100, 46, 167, 0, 4, 2, 172]
abbrev dktX3_load_2 : List UInt8 := dkwX3_load_2 ++ []
def dkwX3_load_1 : List UInt8 := [42, 180, 0, 120, 42, 180, 1, 76, 4, 100, 27, 100, 46, 167, 0, 25, 28, 4, 160, 0, 19, 42]
abbrev dktX3_load_1 : List UInt8 := dkwX3_load_1 ++ dktX3_load_2
def dkwX3_load_0 : List UInt8 := [42, 182, 1, 79, 27, 155, 0, 11, 27, 42, 180, 1, 76, 161, 0, 7, 2, 167, 0, 45, 28, 154, 0, 19]
abbrev dktX3_load_0 : List UInt8 := dkwX3_load_0 ++ dktX3_load_1
theorem dksX3_load_0 : cX3_load.data.toList.drop 0 = dktX3_load_0 := by decide +kernel
theorem dksX3_load_1 : cX3_load.data.toList.drop 24 = dktX3_load_1 := dk_seg dksX3_load_0 24 rfl rfl
theorem dksX3_load_2 : cX3_load.data.toList.drop 46 = dktX3_load_2 := dk_seg dksX3_load_1 22 rfl rfl
theorem dX3_load_0 : decode cX3_load 0 = .ok (.aload_n 0, 1) := dk_42 (dk_at dksX3_load_0 0 rfl rfl)
theorem dX3_load_1 : decode cX3_load 1 = .ok (.invokevirtual 335, 3) := dk_182 1 79 (dk_at dksX3_load_0 1 rfl rfl)
theorem dX3_load_4 : decode cX3_load 4 = .ok (.iload_n 1, 1) := dk_27 (dk_at dksX3_load_0 4 rfl rfl)
theorem dX3_load_5 : decode cX3_load 5 = .ok (.ifCond .lt 11, 3) := dk_155 0 11 (dk_at dksX3_load_0 5 rfl rfl)
theorem dX3_load_8 : decode cX3_load 8 = .ok (.iload_n 1, 1) := dk_27 (dk_at dksX3_load_0 8 rfl rfl)
theorem dX3_load_9 : decode cX3_load 9 = .ok (.aload_n 0, 1) := dk_42 (dk_at dksX3_load_0 9 rfl rfl)
theorem dX3_load_10 : decode cX3_load 10 = .ok (.getfield 332, 3) := dk_180 1 76 (dk_at dksX3_load_0 10 rfl rfl)
theorem dX3_load_13 : decode cX3_load 13 = .ok (.if_icmp .lt 7, 3) := dk_161 0 7 (dk_at dksX3_load_0 13 rfl rfl)
theorem dX3_load_16 : decode cX3_load 16 = .ok (.iconst (-1), 1) := dk_2 (dk_at dksX3_load_0 16 rfl rfl)
theorem dX3_load_17 : decode cX3_load 17 = .ok (.goto 45, 3) := dk_167 0 45 (dk_at dksX3_load_0 17 rfl rfl)
theorem dX3_load_20 : decode cX3_load 20 = .ok (.iload_n 2, 1) := dk_28 (dk_at dksX3_load_0 20 rfl rfl)
theorem dX3_load_21 : decode cX3_load 21 = .ok (.ifCond .ne 19, 3) := dk_154 0 19 (dk_at dksX3_load_0 21 rfl rfl)
theorem dX3_load_24 : decode cX3_load 24 = .ok (.aload_n 0, 1) := dk_42 (dk_at dksX3_load_1 0 rfl rfl)
theorem dX3_load_25 : decode cX3_load 25 = .ok (.getfield 120, 3) := dk_180 0 120 (dk_at dksX3_load_1 1 rfl rfl)
theorem dX3_load_28 : decode cX3_load 28 = .ok (.aload_n 0, 1) := dk_42 (dk_at dksX3_load_1 4 rfl rfl)
theorem dX3_load_29 : decode cX3_load 29 = .ok (.getfield 332, 3) := dk_180 1 76 (dk_at dksX3_load_1 5 rfl rfl)
theorem dX3_load_32 : decode cX3_load 32 = .ok (.iconst 1, 1) := dk_4 (dk_at dksX3_load_1 8 rfl rfl)
theorem dX3_load_33 : decode cX3_load 33 = .ok (.isub, 1) := dk_100 (dk_at dksX3_load_1 9 rfl rfl)
theorem dX3_load_34 : decode cX3_load 34 = .ok (.iload_n 1, 1) := dk_27 (dk_at dksX3_load_1 10 rfl rfl)
theorem dX3_load_35 : decode cX3_load 35 = .ok (.isub, 1) := dk_100 (dk_at dksX3_load_1 11 rfl rfl)
theorem dX3_load_36 : decode cX3_load 36 = .ok (.iaload, 1) := dk_46 (dk_at dksX3_load_1 12 rfl rfl)
theorem dX3_load_37 : decode cX3_load 37 = .ok (.goto 25, 3) := dk_167 0 25 (dk_at dksX3_load_1 13 rfl rfl)
theorem dX3_load_40 : decode cX3_load 40 = .ok (.iload_n 2, 1) := dk_28 (dk_at dksX3_load_1 16 rfl rfl)
theorem dX3_load_41 : decode cX3_load 41 = .ok (.iconst 1, 1) := dk_4 (dk_at dksX3_load_1 17 rfl rfl)
theorem dX3_load_42 : decode cX3_load 42 = .ok (.if_icmp .ne 19, 3) := dk_160 0 19 (dk_at dksX3_load_1 18 rfl rfl)
theorem dX3_load_45 : decode cX3_load 45 = .ok (.aload_n 0, 1) := dk_42 (dk_at dksX3_load_1 21 rfl rfl)
theorem dX3_load_46 : decode cX3_load 46 = .ok (.getfield 123, 3) := dk_180 0 123 (dk_at dksX3_load_2 0 rfl rfl)
theorem dX3_load_49 : decode cX3_load 49 = .ok (.aload_n 0, 1) := dk_42 (dk_at dksX3_load_2 3 rfl rfl)
theorem dX3_load_50 : decode cX3_load 50 = .ok (.getfield 332, 3) := dk_180 1 76 (dk_at dksX3_load_2 4 rfl rfl)
theorem dX3_load_53 : decode cX3_load 53 = .ok (.iconst 1, 1) := dk_4 (dk_at dksX3_load_2 7 rfl rfl)
theorem dX3_load_54 : decode cX3_load 54 = .ok (.isub, 1) := dk_100 (dk_at dksX3_load_2 8 rfl rfl)
theorem dX3_load_55 : decode cX3_load 55 = .ok (.iload_n 1, 1) := dk_27 (dk_at dksX3_load_2 9 rfl rfl)
theorem dX3_load_56 : decode cX3_load 56 = .ok (.isub, 1) := dk_100 (dk_at dksX3_load_2 10 rfl rfl)
theorem dX3_load_57 : decode cX3_load 57 = .ok (.iaload, 1) := dk_46 (dk_at dksX3_load_2 11 rfl rfl)
theorem dX3_load_58 : decode cX3_load 58 = .ok (.goto 4, 3) := dk_167 0 4 (dk_at dksX3_load_2 12 rfl rfl)
theorem dX3_load_61 : decode cX3_load 61 = .ok (.iconst (-1), 1) := dk_2 (dk_at dksX3_load_2 15 rfl rfl)
theorem dX3_load_62 : decode cX3_load 62 = .ok (.ireturn, 1) := dk_172 (dk_at dksX3_load_2 16 rfl rfl)
abbrev cX3_about : ByteArray := prog_16_method_59_code
def yX3_about : MethodName := ⟨RX3, "about", "(I)I"⟩
def dkwX3_about_2 : List UInt8 := [172]
abbrev dktX3_about_2 : List UInt8 := dkwX3_about_2 ++ []
def dkwX3_about_1 : List UInt8 := [5, 160, 0, 10, 42, 180, 1, 57, 167, 0, 16, 27, 6, 160, 0, 10, 42, 180, 0, 147, 167, 0, 4, 2]
abbrev dktX3_about_1 : List UInt8 := dkwX3_about_1 ++ dktX3_about_2
def dkwX3_about_0 : List UInt8 := [27, 154, 0, 10, 42, 180, 1, 22, 167, 0, 40, 27, 4, 160, 0, 10, 42, 180, 1, 28, 167, 0, 28, 27]
abbrev dktX3_about_0 : List UInt8 := dkwX3_about_0 ++ dktX3_about_1
theorem dksX3_about_0 : cX3_about.data.toList.drop 0 = dktX3_about_0 := by decide +kernel
theorem dksX3_about_1 : cX3_about.data.toList.drop 24 = dktX3_about_1 := dk_seg dksX3_about_0 24 rfl rfl
theorem dksX3_about_2 : cX3_about.data.toList.drop 48 = dktX3_about_2 := dk_seg dksX3_about_1 24 rfl rfl
theorem dX3_about_0 : decode cX3_about 0 = .ok (.iload_n 1, 1) := dk_27 (dk_at dksX3_about_0 0 rfl rfl)
theorem dX3_about_1 : decode cX3_about 1 = .ok (.ifCond .ne 10, 3) := dk_154 0 10 (dk_at dksX3_about_0 1 rfl rfl)
theorem dX3_about_4 : decode cX3_about 4 = .ok (.aload_n 0, 1) := dk_42 (dk_at dksX3_about_0 4 rfl rfl)
theorem dX3_about_5 : decode cX3_about 5 = .ok (.getfield 278, 3) := dk_180 1 22 (dk_at dksX3_about_0 5 rfl rfl)
theorem dX3_about_8 : decode cX3_about 8 = .ok (.goto 40, 3) := dk_167 0 40 (dk_at dksX3_about_0 8 rfl rfl)
theorem dX3_about_11 : decode cX3_about 11 = .ok (.iload_n 1, 1) := dk_27 (dk_at dksX3_about_0 11 rfl rfl)
theorem dX3_about_12 : decode cX3_about 12 = .ok (.iconst 1, 1) := dk_4 (dk_at dksX3_about_0 12 rfl rfl)
theorem dX3_about_13 : decode cX3_about 13 = .ok (.if_icmp .ne 10, 3) := dk_160 0 10 (dk_at dksX3_about_0 13 rfl rfl)
theorem dX3_about_16 : decode cX3_about 16 = .ok (.aload_n 0, 1) := dk_42 (dk_at dksX3_about_0 16 rfl rfl)
theorem dX3_about_17 : decode cX3_about 17 = .ok (.getfield 284, 3) := dk_180 1 28 (dk_at dksX3_about_0 17 rfl rfl)
theorem dX3_about_20 : decode cX3_about 20 = .ok (.goto 28, 3) := dk_167 0 28 (dk_at dksX3_about_0 20 rfl rfl)
theorem dX3_about_23 : decode cX3_about 23 = .ok (.iload_n 1, 1) := dk_27 (dk_at dksX3_about_0 23 rfl rfl)
theorem dX3_about_24 : decode cX3_about 24 = .ok (.iconst 2, 1) := dk_5 (dk_at dksX3_about_1 0 rfl rfl)
theorem dX3_about_25 : decode cX3_about 25 = .ok (.if_icmp .ne 10, 3) := dk_160 0 10 (dk_at dksX3_about_1 1 rfl rfl)
theorem dX3_about_28 : decode cX3_about 28 = .ok (.aload_n 0, 1) := dk_42 (dk_at dksX3_about_1 4 rfl rfl)
theorem dX3_about_29 : decode cX3_about 29 = .ok (.getfield 313, 3) := dk_180 1 57 (dk_at dksX3_about_1 5 rfl rfl)
theorem dX3_about_32 : decode cX3_about 32 = .ok (.goto 16, 3) := dk_167 0 16 (dk_at dksX3_about_1 8 rfl rfl)
theorem dX3_about_35 : decode cX3_about 35 = .ok (.iload_n 1, 1) := dk_27 (dk_at dksX3_about_1 11 rfl rfl)
theorem dX3_about_36 : decode cX3_about 36 = .ok (.iconst 3, 1) := dk_6 (dk_at dksX3_about_1 12 rfl rfl)
theorem dX3_about_37 : decode cX3_about 37 = .ok (.if_icmp .ne 10, 3) := dk_160 0 10 (dk_at dksX3_about_1 13 rfl rfl)
theorem dX3_about_40 : decode cX3_about 40 = .ok (.aload_n 0, 1) := dk_42 (dk_at dksX3_about_1 16 rfl rfl)
theorem dX3_about_41 : decode cX3_about 41 = .ok (.getfield 147, 3) := dk_180 0 147 (dk_at dksX3_about_1 17 rfl rfl)
theorem dX3_about_44 : decode cX3_about 44 = .ok (.goto 4, 3) := dk_167 0 4 (dk_at dksX3_about_1 20 rfl rfl)
theorem dX3_about_47 : decode cX3_about 47 = .ok (.iconst (-1), 1) := dk_2 (dk_at dksX3_about_1 23 rfl rfl)
theorem dX3_about_48 : decode cX3_about 48 = .ok (.ireturn, 1) := dk_172 (dk_at dksX3_about_2 0 rfl rfl)
theorem q57 : (Jvm.Cond.initialized "PlyHouseModel") ∈ lw_all := lw_g (lw_at lw_m1 4 rfl) rfl
theorem q848 : (Jvm.Cond.instantiable "PlyHouseModel" (61 : Nat)) ∈ lw_all := lw_g (lw_at lw_m4 75 rfl) rfl
theorem q850 : (Jvm.Cond.instanceMethod ({ cls := "PlyHouseModel", name := "<init>", desc := "()V" } : Jvm.MethodName)) ∈ lw_all := lw_g (lw_at lw_m4 77 rfl) rfl
theorem q851 : (Jvm.Cond.code ({ cls := "PlyHouseModel", name := "<init>", desc := "()V" } : Jvm.MethodName) prog_16_method_1_code (2 : Nat) (Option.none : Option Jvm.ClassFile.FieldType)) ∈ lw_all := lw_g (lw_at lw_m4 78 rfl) rfl
theorem q852 : (Jvm.Cond.methodLink "PlyHouseModel" (1 : Nat) ({ cls := "java/lang/Object", name := "<init>", desc := "()V" } : Jvm.MethodName)) ∈ lw_all := lw_g (lw_at lw_m4 79 rfl) rfl
theorem q853 : (Jvm.Cond.fieldLink "PlyHouseModel" (7 : Nat) "PlyHouseModel" "net" "[I") ∈ lw_all := lw_g (lw_at lw_m4 80 rfl) rfl
theorem q854 : (Jvm.Cond.fieldLink "PlyHouseModel" (138 : Nat) "PlyHouseModel" "centreY" "I") ∈ lw_all := lw_g (lw_at lw_m4 81 rfl) rfl
theorem q855 : (Jvm.Cond.fieldLink "PlyHouseModel" (141 : Nat) "PlyHouseModel" "centreX" "I") ∈ lw_all := lw_g (lw_at lw_m4 82 rfl) rfl
theorem q856 : (Jvm.Cond.fieldLink "PlyHouseModel" (131 : Nat) "PlyHouseModel" "radius" "I") ∈ lw_all := lw_g (lw_at lw_m4 83 rfl) rfl
theorem q857 : (Jvm.Cond.fieldLink "PlyHouseModel" (13 : Nat) "PlyHouseModel" "tape" "[I") ∈ lw_all := lw_g (lw_at lw_m4 84 rfl) rfl
theorem q858 : (Jvm.Cond.fieldLink "PlyHouseModel" (147 : Nat) "PlyHouseModel" "taped" "I") ∈ lw_all := lw_g (lw_at lw_m4 85 rfl) rfl
theorem q859 : (Jvm.Cond.fieldLink "PlyHouseModel" (187 : Nat) "PlyHouseModel" "fault" "I") ∈ lw_all := lw_g (lw_at lw_m4 86 rfl) rfl
theorem q860 : (Jvm.Cond.fieldLink "PlyHouseModel" (16 : Nat) "PlyHouseModel" "faultPlace" "I") ∈ lw_all := lw_g (lw_at lw_m4 87 rfl) rfl
theorem q861 : (Jvm.Cond.fieldLink "PlyHouseModel" (154 : Nat) "PlyHouseModel" "at" "I") ∈ lw_all := lw_g (lw_at lw_m4 88 rfl) rfl
theorem q862 : (Jvm.Cond.fieldLink "PlyHouseModel" (157 : Nat) "PlyHouseModel" "size" "I") ∈ lw_all := lw_g (lw_at lw_m4 89 rfl) rfl
theorem q863 : (Jvm.Cond.fieldLink "PlyHouseModel" (174 : Nat) "PlyHouseModel" "sort" "I") ∈ lw_all := lw_g (lw_at lw_m4 90 rfl) rfl
theorem q864 : (Jvm.Cond.fieldLink "PlyHouseModel" (164 : Nat) "PlyHouseModel" "place" "I") ∈ lw_all := lw_g (lw_at lw_m4 91 rfl) rfl
theorem q865 : (Jvm.Cond.fieldLink "PlyHouseModel" (171 : Nat) "PlyHouseModel" "number" "I") ∈ lw_all := lw_g (lw_at lw_m4 92 rfl) rfl
theorem q866 : (Jvm.Cond.fieldLink "PlyHouseModel" (167 : Nat) "PlyHouseModel" "word" "J") ∈ lw_all := lw_g (lw_at lw_m4 93 rfl) rfl
theorem q867 : (Jvm.Cond.fieldLink "PlyHouseModel" (278 : Nat) "PlyHouseModel" "grades" "I") ∈ lw_all := lw_g (lw_at lw_m4 94 rfl) rfl
theorem q868 : (Jvm.Cond.fieldLink "PlyHouseModel" (20 : Nat) "PlyHouseModel" "wide" "[I") ∈ lw_all := lw_g (lw_at lw_m4 95 rfl) rfl
theorem q869 : (Jvm.Cond.fieldLink "PlyHouseModel" (23 : Nat) "PlyHouseModel" "worth" "[I") ∈ lw_all := lw_g (lw_at lw_m4 96 rfl) rfl
theorem q870 : (Jvm.Cond.fieldLink "PlyHouseModel" (26 : Nat) "PlyHouseModel" "steps" "[I") ∈ lw_all := lw_g (lw_at lw_m4 97 rfl) rfl
theorem q871 : (Jvm.Cond.fieldLink "PlyHouseModel" (29 : Nat) "PlyHouseModel" "numbers" "[I") ∈ lw_all := lw_g (lw_at lw_m4 98 rfl) rfl
theorem q872 : (Jvm.Cond.fieldLink "PlyHouseModel" (32 : Nat) "PlyHouseModel" "lineAt" "[I") ∈ lw_all := lw_g (lw_at lw_m4 99 rfl) rfl
theorem q873 : (Jvm.Cond.fieldLink "PlyHouseModel" (262 : Nat) "PlyHouseModel" "newGrades" "I") ∈ lw_all := lw_g (lw_at lw_m4 100 rfl) rfl
theorem q874 : (Jvm.Cond.fieldLink "PlyHouseModel" (200 : Nat) "PlyHouseModel" "newMany" "I") ∈ lw_all := lw_g (lw_at lw_m4 101 rfl) rfl
theorem q875 : (Jvm.Cond.fieldLink "PlyHouseModel" (245 : Nat) "PlyHouseModel" "terms" "I") ∈ lw_all := lw_g (lw_at lw_m4 102 rfl) rfl
theorem q876 : (Jvm.Cond.fieldLink "PlyHouseModel" (35 : Nat) "PlyHouseModel" "newWide" "[I") ∈ lw_all := lw_g (lw_at lw_m4 103 rfl) rfl
theorem q877 : (Jvm.Cond.fieldLink "PlyHouseModel" (38 : Nat) "PlyHouseModel" "newWorth" "[I") ∈ lw_all := lw_g (lw_at lw_m4 104 rfl) rfl
theorem q878 : (Jvm.Cond.fieldLink "PlyHouseModel" (41 : Nat) "PlyHouseModel" "newSteps" "[I") ∈ lw_all := lw_g (lw_at lw_m4 105 rfl) rfl
theorem q879 : (Jvm.Cond.fieldLink "PlyHouseModel" (44 : Nat) "PlyHouseModel" "newNumbers" "[I") ∈ lw_all := lw_g (lw_at lw_m4 106 rfl) rfl
theorem q880 : (Jvm.Cond.fieldLink "PlyHouseModel" (47 : Nat) "PlyHouseModel" "newAt" "[I") ∈ lw_all := lw_g (lw_at lw_m4 107 rfl) rfl
theorem q881 : (Jvm.Cond.fieldLink "PlyHouseModel" (50 : Nat) "PlyHouseModel" "waits" "[I") ∈ lw_all := lw_g (lw_at lw_m4 108 rfl) rfl
theorem q882 : (Jvm.Cond.fieldLink "PlyHouseModel" (209 : Nat) "PlyHouseModel" "waiting" "I") ∈ lw_all := lw_g (lw_at lw_m4 109 rfl) rfl
theorem q883 : (Jvm.Cond.fieldLink "PlyHouseModel" (212 : Nat) "PlyHouseModel" "deep" "I") ∈ lw_all := lw_g (lw_at lw_m4 110 rfl) rfl
theorem q884 : (Jvm.Cond.fieldLink "PlyHouseModel" (53 : Nat) "PlyHouseModel" "leaf" "[I") ∈ lw_all := lw_g (lw_at lw_m4 111 rfl) rfl
theorem q885 : (Jvm.Cond.fieldLink "PlyHouseModel" (284 : Nat) "PlyHouseModel" "marks" "I") ∈ lw_all := lw_g (lw_at lw_m4 112 rfl) rfl
theorem q886 : (Jvm.Cond.fieldLink "PlyHouseModel" (287 : Nat) "PlyHouseModel" "patches" "I") ∈ lw_all := lw_g (lw_at lw_m4 113 rfl) rfl
theorem q887 : (Jvm.Cond.fieldLink "PlyHouseModel" (56 : Nat) "PlyHouseModel" "patchCost" "I") ∈ lw_all := lw_g (lw_at lw_m4 114 rfl) rfl
theorem q888 : (Jvm.Cond.fieldLink "PlyHouseModel" (59 : Nat) "PlyHouseModel" "names" "[I") ∈ lw_all := lw_g (lw_at lw_m4 115 rfl) rfl
theorem q889 : (Jvm.Cond.fieldLink "PlyHouseModel" (62 : Nat) "PlyHouseModel" "pile" "[I") ∈ lw_all := lw_g (lw_at lw_m4 116 rfl) rfl
theorem q890 : (Jvm.Cond.fieldLink "PlyHouseModel" (65 : Nat) "PlyHouseModel" "best" "[I") ∈ lw_all := lw_g (lw_at lw_m4 117 rfl) rfl
theorem q891 : (Jvm.Cond.fieldLink "PlyHouseModel" (68 : Nat) "PlyHouseModel" "fewest" "[I") ∈ lw_all := lw_g (lw_at lw_m4 118 rfl) rfl
theorem q892 : (Jvm.Cond.fieldLink "PlyHouseModel" (71 : Nat) "PlyHouseModel" "cutAt" "[I") ∈ lw_all := lw_g (lw_at lw_m4 119 rfl) rfl
theorem q893 : (Jvm.Cond.fieldLink "PlyHouseModel" (74 : Nat) "PlyHouseModel" "cutGrade" "[I") ∈ lw_all := lw_g (lw_at lw_m4 120 rfl) rfl
theorem q894 : (Jvm.Cond.fieldLink "PlyHouseModel" (77 : Nat) "PlyHouseModel" "cutPatched" "[I") ∈ lw_all := lw_g (lw_at lw_m4 121 rfl) rfl
theorem q895 : (Jvm.Cond.fieldLink "PlyHouseModel" (80 : Nat) "PlyHouseModel" "can" "[Z") ∈ lw_all := lw_g (lw_at lw_m4 122 rfl) rfl
theorem q896 : (Jvm.Cond.fieldLink "PlyHouseModel" (300 : Nat) "PlyHouseModel" "cuts" "I") ∈ lw_all := lw_g (lw_at lw_m4 123 rfl) rfl
theorem q897 : (Jvm.Cond.fieldLink "PlyHouseModel" (84 : Nat) "PlyHouseModel" "thick" "[I") ∈ lw_all := lw_g (lw_at lw_m4 124 rfl) rfl
theorem q898 : (Jvm.Cond.fieldLink "PlyHouseModel" (87 : Nat) "PlyHouseModel" "off" "[I") ∈ lw_all := lw_g (lw_at lw_m4 125 rfl) rfl
theorem q899 : (Jvm.Cond.fieldLink "PlyHouseModel" (90 : Nat) "PlyHouseModel" "price" "[I") ∈ lw_all := lw_g (lw_at lw_m4 126 rfl) rfl
theorem q900 : (Jvm.Cond.fieldLink "PlyHouseModel" (93 : Nat) "PlyHouseModel" "layer" "[I") ∈ lw_all := lw_g (lw_at lw_m4 127 rfl) rfl
theorem q901 : (Jvm.Cond.fieldLink "PlyHouseModel" (96 : Nat) "PlyHouseModel" "isFair" "[Z") ∈ lw_all := lw_g (lw_at lw_m4 128 rfl) rfl
theorem q902 : (Jvm.Cond.fieldLink "PlyHouseModel" (99 : Nat) "PlyHouseModel" "openings" "I") ∈ lw_all := lw_g (lw_at lw_m4 129 rfl) rfl
theorem q903 : (Jvm.Cond.fieldLink "PlyHouseModel" (102 : Nat) "PlyHouseModel" "base" "I") ∈ lw_all := lw_g (lw_at lw_m4 130 rfl) rfl
theorem q904 : (Jvm.Cond.fieldLink "PlyHouseModel" (105 : Nat) "PlyHouseModel" "per" "I") ∈ lw_all := lw_g (lw_at lw_m4 131 rfl) rfl
theorem q905 : (Jvm.Cond.fieldLink "PlyHouseModel" (108 : Nat) "PlyHouseModel" "life" "I") ∈ lw_all := lw_g (lw_at lw_m4 132 rfl) rfl
theorem q906 : (Jvm.Cond.fieldLink "PlyHouseModel" (313 : Nat) "PlyHouseModel" "boards" "I") ∈ lw_all := lw_g (lw_at lw_m4 133 rfl) rfl
theorem q907 : (Jvm.Cond.fieldLink "PlyHouseModel" (111 : Nat) "PlyHouseModel" "boardThick" "[I") ∈ lw_all := lw_g (lw_at lw_m4 134 rfl) rfl
theorem q908 : (Jvm.Cond.fieldLink "PlyHouseModel" (114 : Nat) "PlyHouseModel" "glued" "[I") ∈ lw_all := lw_g (lw_at lw_m4 135 rfl) rfl
theorem q909 : (Jvm.Cond.fieldLink "PlyHouseModel" (117 : Nat) "PlyHouseModel" "out" "[I") ∈ lw_all := lw_g (lw_at lw_m4 136 rfl) rfl
theorem q910 : (Jvm.Cond.fieldLink "PlyHouseModel" (120 : Nat) "PlyHouseModel" "loadSet" "[I") ∈ lw_all := lw_g (lw_at lw_m4 137 rfl) rfl
theorem q911 : (Jvm.Cond.fieldLink "PlyHouseModel" (123 : Nat) "PlyHouseModel" "loadAt" "[I") ∈ lw_all := lw_g (lw_at lw_m4 138 rfl) rfl
theorem q912 : (Jvm.Cond.fieldLink "PlyHouseModel" (326 : Nat) "PlyHouseModel" "pressed" "I") ∈ lw_all := lw_g (lw_at lw_m4 139 rfl) rfl
theorem q913 : (Jvm.Cond.fieldLink "PlyHouseModel" (332 : Nat) "PlyHouseModel" "loads" "I") ∈ lw_all := lw_g (lw_at lw_m4 140 rfl) rfl
theorem q914 : (Jvm.Cond.laysFinal "PlyHouseModel" "PlyHouseModel" "net" "[I") ∈ lw_all := lw_g (lw_at lw_m4 141 rfl) rfl
theorem q915 : (Jvm.Cond.soleField "PlyHouseModel" "net") ∈ lw_all := lw_g (lw_at lw_m4 142 rfl) rfl
theorem q916 : (Jvm.Cond.lays "PlyHouseModel" "PlyHouseModel" "centreY" "I") ∈ lw_all := lw_g (lw_at lw_m4 143 rfl) rfl
theorem q917 : (Jvm.Cond.soleField "PlyHouseModel" "centreY") ∈ lw_all := lw_g (lw_at lw_m4 144 rfl) rfl
theorem q918 : (Jvm.Cond.lays "PlyHouseModel" "PlyHouseModel" "centreX" "I") ∈ lw_all := lw_g (lw_at lw_m4 145 rfl) rfl
theorem q919 : (Jvm.Cond.soleField "PlyHouseModel" "centreX") ∈ lw_all := lw_g (lw_at lw_m4 146 rfl) rfl
theorem q920 : (Jvm.Cond.lays "PlyHouseModel" "PlyHouseModel" "radius" "I") ∈ lw_all := lw_g (lw_at lw_m4 147 rfl) rfl
theorem q921 : (Jvm.Cond.soleField "PlyHouseModel" "radius") ∈ lw_all := lw_g (lw_at lw_m4 148 rfl) rfl
theorem q922 : (Jvm.Cond.laysFinal "PlyHouseModel" "PlyHouseModel" "tape" "[I") ∈ lw_all := lw_g (lw_at lw_m4 149 rfl) rfl
theorem q923 : (Jvm.Cond.soleField "PlyHouseModel" "tape") ∈ lw_all := lw_g (lw_at lw_m4 150 rfl) rfl
theorem q924 : (Jvm.Cond.lays "PlyHouseModel" "PlyHouseModel" "taped" "I") ∈ lw_all := lw_g (lw_at lw_m4 151 rfl) rfl
theorem q925 : (Jvm.Cond.soleField "PlyHouseModel" "taped") ∈ lw_all := lw_g (lw_at lw_m4 152 rfl) rfl
theorem q926 : (Jvm.Cond.lays "PlyHouseModel" "PlyHouseModel" "fault" "I") ∈ lw_all := lw_g (lw_at lw_m4 153 rfl) rfl
theorem q927 : (Jvm.Cond.soleField "PlyHouseModel" "fault") ∈ lw_all := lw_g (lw_at lw_m4 154 rfl) rfl
theorem q928 : (Jvm.Cond.lays "PlyHouseModel" "PlyHouseModel" "faultPlace" "I") ∈ lw_all := lw_g (lw_at lw_m4 155 rfl) rfl
theorem q929 : (Jvm.Cond.soleField "PlyHouseModel" "faultPlace") ∈ lw_all := lw_g (lw_at lw_m4 156 rfl) rfl
theorem q930 : (Jvm.Cond.lays "PlyHouseModel" "PlyHouseModel" "at" "I") ∈ lw_all := lw_g (lw_at lw_m4 157 rfl) rfl
theorem q931 : (Jvm.Cond.soleField "PlyHouseModel" "at") ∈ lw_all := lw_g (lw_at lw_m4 158 rfl) rfl
theorem q932 : (Jvm.Cond.lays "PlyHouseModel" "PlyHouseModel" "size" "I") ∈ lw_all := lw_g (lw_at lw_m4 159 rfl) rfl
theorem q933 : (Jvm.Cond.soleField "PlyHouseModel" "size") ∈ lw_all := lw_g (lw_at lw_m4 160 rfl) rfl
theorem q934 : (Jvm.Cond.lays "PlyHouseModel" "PlyHouseModel" "sort" "I") ∈ lw_all := lw_g (lw_at lw_m4 161 rfl) rfl
theorem q935 : (Jvm.Cond.soleField "PlyHouseModel" "sort") ∈ lw_all := lw_g (lw_at lw_m4 162 rfl) rfl
theorem q936 : (Jvm.Cond.lays "PlyHouseModel" "PlyHouseModel" "place" "I") ∈ lw_all := lw_g (lw_at lw_m4 163 rfl) rfl
theorem q937 : (Jvm.Cond.soleField "PlyHouseModel" "place") ∈ lw_all := lw_g (lw_at lw_m4 164 rfl) rfl
theorem q938 : (Jvm.Cond.lays "PlyHouseModel" "PlyHouseModel" "number" "I") ∈ lw_all := lw_g (lw_at lw_m4 165 rfl) rfl
theorem q939 : (Jvm.Cond.soleField "PlyHouseModel" "number") ∈ lw_all := lw_g (lw_at lw_m4 166 rfl) rfl
theorem q940 : (Jvm.Cond.lays "PlyHouseModel" "PlyHouseModel" "word" "J") ∈ lw_all := lw_g (lw_at lw_m4 167 rfl) rfl
theorem q941 : (Jvm.Cond.soleField "PlyHouseModel" "word") ∈ lw_all := lw_g (lw_at lw_m4 168 rfl) rfl
theorem q942 : (Jvm.Cond.lays "PlyHouseModel" "PlyHouseModel" "grades" "I") ∈ lw_all := lw_g (lw_at lw_m4 169 rfl) rfl
theorem q943 : (Jvm.Cond.soleField "PlyHouseModel" "grades") ∈ lw_all := lw_g (lw_at lw_m4 170 rfl) rfl
theorem q944 : (Jvm.Cond.laysFinal "PlyHouseModel" "PlyHouseModel" "wide" "[I") ∈ lw_all := lw_g (lw_at lw_m4 171 rfl) rfl
theorem q945 : (Jvm.Cond.soleField "PlyHouseModel" "wide") ∈ lw_all := lw_g (lw_at lw_m4 172 rfl) rfl
theorem q946 : (Jvm.Cond.laysFinal "PlyHouseModel" "PlyHouseModel" "worth" "[I") ∈ lw_all := lw_g (lw_at lw_m4 173 rfl) rfl
theorem q947 : (Jvm.Cond.soleField "PlyHouseModel" "worth") ∈ lw_all := lw_g (lw_at lw_m4 174 rfl) rfl
theorem q948 : (Jvm.Cond.laysFinal "PlyHouseModel" "PlyHouseModel" "steps" "[I") ∈ lw_all := lw_g (lw_at lw_m4 175 rfl) rfl
theorem q949 : (Jvm.Cond.soleField "PlyHouseModel" "steps") ∈ lw_all := lw_g (lw_at lw_m4 176 rfl) rfl
theorem q950 : (Jvm.Cond.laysFinal "PlyHouseModel" "PlyHouseModel" "numbers" "[I") ∈ lw_all := lw_g (lw_at lw_m4 177 rfl) rfl
theorem q951 : (Jvm.Cond.soleField "PlyHouseModel" "numbers") ∈ lw_all := lw_g (lw_at lw_m4 178 rfl) rfl
theorem q952 : (Jvm.Cond.laysFinal "PlyHouseModel" "PlyHouseModel" "lineAt" "[I") ∈ lw_all := lw_g (lw_at lw_m4 179 rfl) rfl
theorem q953 : (Jvm.Cond.soleField "PlyHouseModel" "lineAt") ∈ lw_all := lw_g (lw_at lw_m4 180 rfl) rfl
theorem q954 : (Jvm.Cond.lays "PlyHouseModel" "PlyHouseModel" "newGrades" "I") ∈ lw_all := lw_g (lw_at lw_m4 181 rfl) rfl
theorem q955 : (Jvm.Cond.soleField "PlyHouseModel" "newGrades") ∈ lw_all := lw_g (lw_at lw_m4 182 rfl) rfl
theorem q956 : (Jvm.Cond.lays "PlyHouseModel" "PlyHouseModel" "newMany" "I") ∈ lw_all := lw_g (lw_at lw_m4 183 rfl) rfl
theorem q957 : (Jvm.Cond.soleField "PlyHouseModel" "newMany") ∈ lw_all := lw_g (lw_at lw_m4 184 rfl) rfl
theorem q958 : (Jvm.Cond.lays "PlyHouseModel" "PlyHouseModel" "terms" "I") ∈ lw_all := lw_g (lw_at lw_m4 185 rfl) rfl
theorem q959 : (Jvm.Cond.soleField "PlyHouseModel" "terms") ∈ lw_all := lw_g (lw_at lw_m4 186 rfl) rfl
theorem q960 : (Jvm.Cond.laysFinal "PlyHouseModel" "PlyHouseModel" "newWide" "[I") ∈ lw_all := lw_g (lw_at lw_m4 187 rfl) rfl
theorem q961 : (Jvm.Cond.soleField "PlyHouseModel" "newWide") ∈ lw_all := lw_g (lw_at lw_m4 188 rfl) rfl
theorem q962 : (Jvm.Cond.laysFinal "PlyHouseModel" "PlyHouseModel" "newWorth" "[I") ∈ lw_all := lw_g (lw_at lw_m4 189 rfl) rfl
theorem q963 : (Jvm.Cond.soleField "PlyHouseModel" "newWorth") ∈ lw_all := lw_g (lw_at lw_m4 190 rfl) rfl
theorem q964 : (Jvm.Cond.laysFinal "PlyHouseModel" "PlyHouseModel" "newSteps" "[I") ∈ lw_all := lw_g (lw_at lw_m4 191 rfl) rfl
theorem q965 : (Jvm.Cond.soleField "PlyHouseModel" "newSteps") ∈ lw_all := lw_g (lw_at lw_m4 192 rfl) rfl
theorem q966 : (Jvm.Cond.laysFinal "PlyHouseModel" "PlyHouseModel" "newNumbers" "[I") ∈ lw_all := lw_g (lw_at lw_m4 193 rfl) rfl
theorem q967 : (Jvm.Cond.soleField "PlyHouseModel" "newNumbers") ∈ lw_all := lw_g (lw_at lw_m4 194 rfl) rfl
theorem q968 : (Jvm.Cond.laysFinal "PlyHouseModel" "PlyHouseModel" "newAt" "[I") ∈ lw_all := lw_g (lw_at lw_m4 195 rfl) rfl
theorem q969 : (Jvm.Cond.soleField "PlyHouseModel" "newAt") ∈ lw_all := lw_g (lw_at lw_m4 196 rfl) rfl
theorem q970 : (Jvm.Cond.laysFinal "PlyHouseModel" "PlyHouseModel" "waits" "[I") ∈ lw_all := lw_g (lw_at lw_m4 197 rfl) rfl
theorem q971 : (Jvm.Cond.soleField "PlyHouseModel" "waits") ∈ lw_all := lw_g (lw_at lw_m4 198 rfl) rfl
theorem q972 : (Jvm.Cond.lays "PlyHouseModel" "PlyHouseModel" "waiting" "I") ∈ lw_all := lw_g (lw_at lw_m4 199 rfl) rfl
theorem q973 : (Jvm.Cond.soleField "PlyHouseModel" "waiting") ∈ lw_all := lw_g (lw_at lw_m4 200 rfl) rfl
theorem q974 : (Jvm.Cond.lays "PlyHouseModel" "PlyHouseModel" "deep" "I") ∈ lw_all := lw_g (lw_at lw_m4 201 rfl) rfl
theorem q975 : (Jvm.Cond.soleField "PlyHouseModel" "deep") ∈ lw_all := lw_g (lw_at lw_m4 202 rfl) rfl
theorem q976 : (Jvm.Cond.laysFinal "PlyHouseModel" "PlyHouseModel" "leaf" "[I") ∈ lw_all := lw_g (lw_at lw_m4 203 rfl) rfl
theorem q977 : (Jvm.Cond.soleField "PlyHouseModel" "leaf") ∈ lw_all := lw_g (lw_at lw_m4 204 rfl) rfl
theorem q978 : (Jvm.Cond.lays "PlyHouseModel" "PlyHouseModel" "marks" "I") ∈ lw_all := lw_g (lw_at lw_m4 205 rfl) rfl
theorem q979 : (Jvm.Cond.soleField "PlyHouseModel" "marks") ∈ lw_all := lw_g (lw_at lw_m4 206 rfl) rfl
theorem q980 : (Jvm.Cond.lays "PlyHouseModel" "PlyHouseModel" "patches" "I") ∈ lw_all := lw_g (lw_at lw_m4 207 rfl) rfl
theorem q981 : (Jvm.Cond.soleField "PlyHouseModel" "patches") ∈ lw_all := lw_g (lw_at lw_m4 208 rfl) rfl
theorem q982 : (Jvm.Cond.lays "PlyHouseModel" "PlyHouseModel" "patchCost" "I") ∈ lw_all := lw_g (lw_at lw_m4 209 rfl) rfl
theorem q983 : (Jvm.Cond.soleField "PlyHouseModel" "patchCost") ∈ lw_all := lw_g (lw_at lw_m4 210 rfl) rfl
theorem q984 : (Jvm.Cond.laysFinal "PlyHouseModel" "PlyHouseModel" "names" "[I") ∈ lw_all := lw_g (lw_at lw_m4 211 rfl) rfl
theorem q985 : (Jvm.Cond.soleField "PlyHouseModel" "names") ∈ lw_all := lw_g (lw_at lw_m4 212 rfl) rfl
theorem q986 : (Jvm.Cond.laysFinal "PlyHouseModel" "PlyHouseModel" "pile" "[I") ∈ lw_all := lw_g (lw_at lw_m4 213 rfl) rfl
theorem q987 : (Jvm.Cond.soleField "PlyHouseModel" "pile") ∈ lw_all := lw_g (lw_at lw_m4 214 rfl) rfl
theorem q988 : (Jvm.Cond.laysFinal "PlyHouseModel" "PlyHouseModel" "best" "[I") ∈ lw_all := lw_g (lw_at lw_m4 215 rfl) rfl
theorem q989 : (Jvm.Cond.soleField "PlyHouseModel" "best") ∈ lw_all := lw_g (lw_at lw_m4 216 rfl) rfl
theorem q990 : (Jvm.Cond.laysFinal "PlyHouseModel" "PlyHouseModel" "fewest" "[I") ∈ lw_all := lw_g (lw_at lw_m4 217 rfl) rfl
theorem q991 : (Jvm.Cond.soleField "PlyHouseModel" "fewest") ∈ lw_all := lw_g (lw_at lw_m4 218 rfl) rfl
theorem q992 : (Jvm.Cond.laysFinal "PlyHouseModel" "PlyHouseModel" "cutAt" "[I") ∈ lw_all := lw_g (lw_at lw_m4 219 rfl) rfl
theorem q993 : (Jvm.Cond.soleField "PlyHouseModel" "cutAt") ∈ lw_all := lw_g (lw_at lw_m4 220 rfl) rfl
theorem q994 : (Jvm.Cond.laysFinal "PlyHouseModel" "PlyHouseModel" "cutGrade" "[I") ∈ lw_all := lw_g (lw_at lw_m4 221 rfl) rfl
theorem q995 : (Jvm.Cond.soleField "PlyHouseModel" "cutGrade") ∈ lw_all := lw_g (lw_at lw_m4 222 rfl) rfl
theorem q996 : (Jvm.Cond.laysFinal "PlyHouseModel" "PlyHouseModel" "cutPatched" "[I") ∈ lw_all := lw_g (lw_at lw_m4 223 rfl) rfl
theorem q997 : (Jvm.Cond.soleField "PlyHouseModel" "cutPatched") ∈ lw_all := lw_g (lw_at lw_m4 224 rfl) rfl
theorem q998 : (Jvm.Cond.laysFinal "PlyHouseModel" "PlyHouseModel" "can" "[Z") ∈ lw_all := lw_g (lw_at lw_m4 225 rfl) rfl
theorem q999 : (Jvm.Cond.soleField "PlyHouseModel" "can") ∈ lw_all := lw_g (lw_at lw_m4 226 rfl) rfl
theorem q1000 : (Jvm.Cond.lays "PlyHouseModel" "PlyHouseModel" "cuts" "I") ∈ lw_all := lw_g (lw_at lw_m4 227 rfl) rfl
theorem q1001 : (Jvm.Cond.soleField "PlyHouseModel" "cuts") ∈ lw_all := lw_g (lw_at lw_m4 228 rfl) rfl
theorem q1002 : (Jvm.Cond.laysFinal "PlyHouseModel" "PlyHouseModel" "thick" "[I") ∈ lw_all := lw_g (lw_at lw_m4 229 rfl) rfl
theorem q1003 : (Jvm.Cond.soleField "PlyHouseModel" "thick") ∈ lw_all := lw_g (lw_at lw_m4 230 rfl) rfl
theorem q1004 : (Jvm.Cond.laysFinal "PlyHouseModel" "PlyHouseModel" "off" "[I") ∈ lw_all := lw_g (lw_at lw_m4 231 rfl) rfl
theorem q1005 : (Jvm.Cond.soleField "PlyHouseModel" "off") ∈ lw_all := lw_g (lw_at lw_m4 232 rfl) rfl
theorem q1006 : (Jvm.Cond.laysFinal "PlyHouseModel" "PlyHouseModel" "price" "[I") ∈ lw_all := lw_g (lw_at lw_m4 233 rfl) rfl
theorem q1007 : (Jvm.Cond.soleField "PlyHouseModel" "price") ∈ lw_all := lw_g (lw_at lw_m4 234 rfl) rfl
theorem q1008 : (Jvm.Cond.laysFinal "PlyHouseModel" "PlyHouseModel" "layer" "[I") ∈ lw_all := lw_g (lw_at lw_m4 235 rfl) rfl
theorem q1009 : (Jvm.Cond.soleField "PlyHouseModel" "layer") ∈ lw_all := lw_g (lw_at lw_m4 236 rfl) rfl
theorem q1010 : (Jvm.Cond.laysFinal "PlyHouseModel" "PlyHouseModel" "isFair" "[Z") ∈ lw_all := lw_g (lw_at lw_m4 237 rfl) rfl
theorem q1011 : (Jvm.Cond.soleField "PlyHouseModel" "isFair") ∈ lw_all := lw_g (lw_at lw_m4 238 rfl) rfl
theorem q1012 : (Jvm.Cond.lays "PlyHouseModel" "PlyHouseModel" "openings" "I") ∈ lw_all := lw_g (lw_at lw_m4 239 rfl) rfl
theorem q1013 : (Jvm.Cond.soleField "PlyHouseModel" "openings") ∈ lw_all := lw_g (lw_at lw_m5 0 rfl) rfl
theorem q1014 : (Jvm.Cond.lays "PlyHouseModel" "PlyHouseModel" "base" "I") ∈ lw_all := lw_g (lw_at lw_m5 1 rfl) rfl
theorem q1015 : (Jvm.Cond.soleField "PlyHouseModel" "base") ∈ lw_all := lw_g (lw_at lw_m5 2 rfl) rfl
theorem q1016 : (Jvm.Cond.lays "PlyHouseModel" "PlyHouseModel" "per" "I") ∈ lw_all := lw_g (lw_at lw_m5 3 rfl) rfl
theorem q1017 : (Jvm.Cond.soleField "PlyHouseModel" "per") ∈ lw_all := lw_g (lw_at lw_m5 4 rfl) rfl
theorem q1018 : (Jvm.Cond.lays "PlyHouseModel" "PlyHouseModel" "life" "I") ∈ lw_all := lw_g (lw_at lw_m5 5 rfl) rfl
theorem q1019 : (Jvm.Cond.soleField "PlyHouseModel" "life") ∈ lw_all := lw_g (lw_at lw_m5 6 rfl) rfl
theorem q1020 : (Jvm.Cond.lays "PlyHouseModel" "PlyHouseModel" "boards" "I") ∈ lw_all := lw_g (lw_at lw_m5 7 rfl) rfl
theorem q1021 : (Jvm.Cond.soleField "PlyHouseModel" "boards") ∈ lw_all := lw_g (lw_at lw_m5 8 rfl) rfl
theorem q1022 : (Jvm.Cond.laysFinal "PlyHouseModel" "PlyHouseModel" "boardThick" "[I") ∈ lw_all := lw_g (lw_at lw_m5 9 rfl) rfl
theorem q1023 : (Jvm.Cond.soleField "PlyHouseModel" "boardThick") ∈ lw_all := lw_g (lw_at lw_m5 10 rfl) rfl
theorem q1024 : (Jvm.Cond.laysFinal "PlyHouseModel" "PlyHouseModel" "glued" "[I") ∈ lw_all := lw_g (lw_at lw_m5 11 rfl) rfl
theorem q1025 : (Jvm.Cond.soleField "PlyHouseModel" "glued") ∈ lw_all := lw_g (lw_at lw_m5 12 rfl) rfl
theorem q1026 : (Jvm.Cond.laysFinal "PlyHouseModel" "PlyHouseModel" "out" "[I") ∈ lw_all := lw_g (lw_at lw_m5 13 rfl) rfl
theorem q1027 : (Jvm.Cond.soleField "PlyHouseModel" "out") ∈ lw_all := lw_g (lw_at lw_m5 14 rfl) rfl
theorem q1028 : (Jvm.Cond.laysFinal "PlyHouseModel" "PlyHouseModel" "loadSet" "[I") ∈ lw_all := lw_g (lw_at lw_m5 15 rfl) rfl
theorem q1029 : (Jvm.Cond.soleField "PlyHouseModel" "loadSet") ∈ lw_all := lw_g (lw_at lw_m5 16 rfl) rfl
theorem q1030 : (Jvm.Cond.laysFinal "PlyHouseModel" "PlyHouseModel" "loadAt" "[I") ∈ lw_all := lw_g (lw_at lw_m5 17 rfl) rfl
theorem q1031 : (Jvm.Cond.soleField "PlyHouseModel" "loadAt") ∈ lw_all := lw_g (lw_at lw_m5 18 rfl) rfl
theorem q1032 : (Jvm.Cond.lays "PlyHouseModel" "PlyHouseModel" "pressed" "I") ∈ lw_all := lw_g (lw_at lw_m5 19 rfl) rfl
theorem q1033 : (Jvm.Cond.soleField "PlyHouseModel" "pressed") ∈ lw_all := lw_g (lw_at lw_m5 20 rfl) rfl
theorem q1034 : (Jvm.Cond.lays "PlyHouseModel" "PlyHouseModel" "loads" "I") ∈ lw_all := lw_g (lw_at lw_m5 21 rfl) rfl
theorem q1035 : (Jvm.Cond.soleField "PlyHouseModel" "loads") ∈ lw_all := lw_g (lw_at lw_m5 22 rfl) rfl
theorem q1036 : (Jvm.Cond.superclass "PlyHouseModel" "java/lang/Object") ∈ lw_all := lw_g (lw_at lw_m5 23 rfl) rfl
theorem q1038 : (Jvm.Cond.instanceMethod ({ cls := "PlyHouseModel", name := "net", desc := "(II)Z" } : Jvm.MethodName)) ∈ lw_all := lw_g (lw_at lw_m5 25 rfl) rfl
theorem q1039 : (Jvm.Cond.selects "PlyHouseModel" ({ cls := "PlyHouseModel", name := "net", desc := "(II)Z" } : Jvm.MethodName) ({ cls := "PlyHouseModel", name := "net", desc := "(II)Z" } : Jvm.MethodName)) ∈ lw_all := lw_g (lw_at lw_m5 26 rfl) rfl
theorem q1040 : (Jvm.Cond.code ({ cls := "PlyHouseModel", name := "net", desc := "(II)Z" } : Jvm.MethodName) prog_16_method_2_code (3 : Nat) (Option.some Jvm.ClassFile.FieldType.boolean)) ∈ lw_all := lw_g (lw_at lw_m5 27 rfl) rfl
theorem q1041 : (Jvm.Cond.constant "PlyHouseModel" (126 : Nat) (16777216 : Int32)) ∈ lw_all := lw_g (lw_at lw_m5 28 rfl) rfl
theorem q1043 : (Jvm.Cond.instanceMethod ({ cls := "PlyHouseModel", name := "centre", desc := "(I)I" } : Jvm.MethodName)) ∈ lw_all := lw_g (lw_at lw_m5 30 rfl) rfl
theorem q1044 : (Jvm.Cond.selects "PlyHouseModel" ({ cls := "PlyHouseModel", name := "centre", desc := "(I)I" } : Jvm.MethodName) ({ cls := "PlyHouseModel", name := "centre", desc := "(I)I" } : Jvm.MethodName)) ∈ lw_all := lw_g (lw_at lw_m5 31 rfl) rfl
theorem q1045 : (Jvm.Cond.code ({ cls := "PlyHouseModel", name := "centre", desc := "(I)I" } : Jvm.MethodName) prog_16_method_6_code (2 : Nat) (Option.some Jvm.ClassFile.FieldType.int)) ∈ lw_all := lw_g (lw_at lw_m5 32 rfl) rfl
theorem q1046 : (Jvm.Cond.methodLink "PlyHouseModel" (144 : Nat) ({ cls := "PlyHouseModel", name := "seekCentre", desc := "()V" } : Jvm.MethodName)) ∈ lw_all := lw_g (lw_at lw_m5 33 rfl) rfl
theorem q1047 : (Jvm.Cond.privateMethod ({ cls := "PlyHouseModel", name := "seekCentre", desc := "()V" } : Jvm.MethodName)) ∈ lw_tbl := lw_at lw_m5 34 rfl
theorem q1048 : (Jvm.Cond.instanceMethod ({ cls := "PlyHouseModel", name := "seekCentre", desc := "()V" } : Jvm.MethodName)) ∈ lw_all := lw_g (lw_at lw_m5 35 rfl) rfl
theorem q1049 : (Jvm.Cond.code ({ cls := "PlyHouseModel", name := "seekCentre", desc := "()V" } : Jvm.MethodName) prog_16_method_5_code (3 : Nat) (Option.none : Option Jvm.ClassFile.FieldType)) ∈ lw_all := lw_g (lw_at lw_m5 36 rfl) rfl
theorem q1050 : (Jvm.Cond.methodLink "PlyHouseModel" (134 : Nat) ({ cls := "PlyHouseModel", name := "fits", desc := "(III)Z" } : Jvm.MethodName)) ∈ lw_all := lw_g (lw_at lw_m5 37 rfl) rfl
theorem q1051 : (Jvm.Cond.privateMethod ({ cls := "PlyHouseModel", name := "fits", desc := "(III)Z" } : Jvm.MethodName)) ∈ lw_tbl := lw_at lw_m5 38 rfl
theorem q1052 : (Jvm.Cond.instanceMethod ({ cls := "PlyHouseModel", name := "fits", desc := "(III)Z" } : Jvm.MethodName)) ∈ lw_all := lw_g (lw_at lw_m5 39 rfl) rfl
theorem q1053 : (Jvm.Cond.code ({ cls := "PlyHouseModel", name := "fits", desc := "(III)Z" } : Jvm.MethodName) prog_16_method_4_code (7 : Nat) (Option.some Jvm.ClassFile.FieldType.boolean)) ∈ lw_all := lw_g (lw_at lw_m5 40 rfl) rfl
theorem q1054 : (Jvm.Cond.methodLink "PlyHouseModel" (127 : Nat) ({ cls := "PlyHouseModel", name := "isIn", desc := "(II)Z" } : Jvm.MethodName)) ∈ lw_all := lw_g (lw_at lw_m5 41 rfl) rfl
theorem q1055 : (Jvm.Cond.privateMethod ({ cls := "PlyHouseModel", name := "isIn", desc := "(II)Z" } : Jvm.MethodName)) ∈ lw_tbl := lw_at lw_m5 42 rfl
theorem q1056 : (Jvm.Cond.instanceMethod ({ cls := "PlyHouseModel", name := "isIn", desc := "(II)Z" } : Jvm.MethodName)) ∈ lw_all := lw_g (lw_at lw_m5 43 rfl) rfl
theorem q1057 : (Jvm.Cond.code ({ cls := "PlyHouseModel", name := "isIn", desc := "(II)Z" } : Jvm.MethodName) prog_16_method_3_code (3 : Nat) (Option.some Jvm.ClassFile.FieldType.boolean)) ∈ lw_all := lw_g (lw_at lw_m5 44 rfl) rfl
theorem q1059 : (Jvm.Cond.instanceMethod ({ cls := "PlyHouseModel", name := "full", desc := "(II)I" } : Jvm.MethodName)) ∈ lw_all := lw_g (lw_at lw_m5 46 rfl) rfl
theorem q1060 : (Jvm.Cond.selects "PlyHouseModel" ({ cls := "PlyHouseModel", name := "full", desc := "(II)I" } : Jvm.MethodName) ({ cls := "PlyHouseModel", name := "full", desc := "(II)I" } : Jvm.MethodName)) ∈ lw_all := lw_g (lw_at lw_m5 47 rfl) rfl
theorem q1061 : (Jvm.Cond.code ({ cls := "PlyHouseModel", name := "full", desc := "(II)I" } : Jvm.MethodName) prog_16_method_7_code (4 : Nat) (Option.some Jvm.ClassFile.FieldType.int)) ∈ lw_all := lw_g (lw_at lw_m5 48 rfl) rfl
theorem q1063 : (Jvm.Cond.instanceMethod ({ cls := "PlyHouseModel", name := "feed", desc := "(IIIII)I" } : Jvm.MethodName)) ∈ lw_all := lw_g (lw_at lw_m5 50 rfl) rfl
theorem q1064 : (Jvm.Cond.selects "PlyHouseModel" ({ cls := "PlyHouseModel", name := "feed", desc := "(IIIII)I" } : Jvm.MethodName) ({ cls := "PlyHouseModel", name := "feed", desc := "(IIIII)I" } : Jvm.MethodName)) ∈ lw_all := lw_g (lw_at lw_m5 51 rfl) rfl
theorem q1065 : (Jvm.Cond.code ({ cls := "PlyHouseModel", name := "feed", desc := "(IIIII)I" } : Jvm.MethodName) prog_16_method_8_code (6 : Nat) (Option.some Jvm.ClassFile.FieldType.int)) ∈ lw_all := lw_g (lw_at lw_m5 52 rfl) rfl
theorem q1066 : (Jvm.Cond.methodLink "PlyHouseModel" (150 : Nat) ({ cls := "PlyHouseModel", name := "four", desc := "(I)V" } : Jvm.MethodName)) ∈ lw_all := lw_g (lw_at lw_m5 53 rfl) rfl
theorem q1067 : (Jvm.Cond.privateMethod ({ cls := "PlyHouseModel", name := "four", desc := "(I)V" } : Jvm.MethodName)) ∈ lw_tbl := lw_at lw_m5 54 rfl
theorem q1068 : (Jvm.Cond.instanceMethod ({ cls := "PlyHouseModel", name := "four", desc := "(I)V" } : Jvm.MethodName)) ∈ lw_all := lw_g (lw_at lw_m5 55 rfl) rfl
theorem q1069 : (Jvm.Cond.code ({ cls := "PlyHouseModel", name := "four", desc := "(I)V" } : Jvm.MethodName) prog_16_method_9_code (3 : Nat) (Option.none : Option Jvm.ClassFile.FieldType)) ∈ lw_all := lw_g (lw_at lw_m5 56 rfl) rfl
theorem q1071 : (Jvm.Cond.instanceMethod ({ cls := "PlyHouseModel", name := "end", desc := "(I)I" } : Jvm.MethodName)) ∈ lw_all := lw_g (lw_at lw_m5 58 rfl) rfl
theorem q1072 : (Jvm.Cond.selects "PlyHouseModel" ({ cls := "PlyHouseModel", name := "end", desc := "(I)I" } : Jvm.MethodName) ({ cls := "PlyHouseModel", name := "end", desc := "(I)I" } : Jvm.MethodName)) ∈ lw_all := lw_g (lw_at lw_m5 59 rfl) rfl
theorem q1073 : (Jvm.Cond.code ({ cls := "PlyHouseModel", name := "end", desc := "(I)I" } : Jvm.MethodName) prog_16_method_10_code (2 : Nat) (Option.some Jvm.ClassFile.FieldType.int)) ∈ lw_all := lw_g (lw_at lw_m5 60 rfl) rfl
theorem q1075 : (Jvm.Cond.instanceMethod ({ cls := "PlyHouseModel", name := "grades", desc := "()I" } : Jvm.MethodName)) ∈ lw_all := lw_g (lw_at lw_m5 62 rfl) rfl
theorem q1076 : (Jvm.Cond.selects "PlyHouseModel" ({ cls := "PlyHouseModel", name := "grades", desc := "()I" } : Jvm.MethodName) ({ cls := "PlyHouseModel", name := "grades", desc := "()I" } : Jvm.MethodName)) ∈ lw_all := lw_g (lw_at lw_m5 63 rfl) rfl
theorem q1077 : (Jvm.Cond.code ({ cls := "PlyHouseModel", name := "grades", desc := "()I" } : Jvm.MethodName) prog_16_method_30_code (3 : Nat) (Option.some Jvm.ClassFile.FieldType.int)) ∈ lw_all := lw_g (lw_at lw_m5 64 rfl) rfl
theorem q1078 : (Jvm.Cond.methodLink "PlyHouseModel" (259 : Nat) ({ cls := "PlyHouseModel", name := "begin", desc := "()V" } : Jvm.MethodName)) ∈ lw_all := lw_g (lw_at lw_m5 65 rfl) rfl
theorem q1079 : (Jvm.Cond.privateMethod ({ cls := "PlyHouseModel", name := "begin", desc := "()V" } : Jvm.MethodName)) ∈ lw_tbl := lw_at lw_m5 66 rfl
theorem q1080 : (Jvm.Cond.instanceMethod ({ cls := "PlyHouseModel", name := "begin", desc := "()V" } : Jvm.MethodName)) ∈ lw_all := lw_g (lw_at lw_m5 67 rfl) rfl
theorem q1081 : (Jvm.Cond.code ({ cls := "PlyHouseModel", name := "begin", desc := "()V" } : Jvm.MethodName) prog_16_method_29_code (1 : Nat) (Option.none : Option Jvm.ClassFile.FieldType)) ∈ lw_all := lw_g (lw_at lw_m5 68 rfl) rfl
theorem q1082 : (Jvm.Cond.methodLink "PlyHouseModel" (206 : Nat) ({ cls := "PlyHouseModel", name := "next", desc := "()V" } : Jvm.MethodName)) ∈ lw_all := lw_g (lw_at lw_m5 69 rfl) rfl
theorem q1083 : (Jvm.Cond.privateMethod ({ cls := "PlyHouseModel", name := "next", desc := "()V" } : Jvm.MethodName)) ∈ lw_tbl := lw_at lw_m5 70 rfl
theorem q1084 : (Jvm.Cond.instanceMethod ({ cls := "PlyHouseModel", name := "next", desc := "()V" } : Jvm.MethodName)) ∈ lw_all := lw_g (lw_at lw_m5 71 rfl) rfl
theorem q1085 : (Jvm.Cond.code ({ cls := "PlyHouseModel", name := "next", desc := "()V" } : Jvm.MethodName) prog_16_method_15_code (3 : Nat) (Option.none : Option Jvm.ClassFile.FieldType)) ∈ lw_all := lw_g (lw_at lw_m5 72 rfl) rfl
theorem q1086 : (Jvm.Cond.methodLink "PlyHouseModel" (160 : Nat) ({ cls := "PlyHouseModel", name := "here", desc := "(I)I" } : Jvm.MethodName)) ∈ lw_all := lw_g (lw_at lw_m5 73 rfl) rfl
theorem q1087 : (Jvm.Cond.privateMethod ({ cls := "PlyHouseModel", name := "here", desc := "(I)I" } : Jvm.MethodName)) ∈ lw_tbl := lw_at lw_m5 74 rfl
theorem q1088 : (Jvm.Cond.instanceMethod ({ cls := "PlyHouseModel", name := "here", desc := "(I)I" } : Jvm.MethodName)) ∈ lw_all := lw_g (lw_at lw_m5 75 rfl) rfl
theorem q1089 : (Jvm.Cond.code ({ cls := "PlyHouseModel", name := "here", desc := "(I)I" } : Jvm.MethodName) prog_16_method_11_code (2 : Nat) (Option.some Jvm.ClassFile.FieldType.int)) ∈ lw_all := lw_g (lw_at lw_m5 76 rfl) rfl
theorem q1090 : (Jvm.Cond.methodLink "PlyHouseModel" (177 : Nat) ({ cls := "PlyHouseModel", name := "isLetter", desc := "(I)Z" } : Jvm.MethodName)) ∈ lw_all := lw_g (lw_at lw_m5 77 rfl) rfl
theorem q1091 : (Jvm.Cond.static ({ cls := "PlyHouseModel", name := "isLetter", desc := "(I)Z" } : Jvm.MethodName)) ∈ lw_all := lw_g (lw_at lw_m5 78 rfl) rfl
theorem q1092 : (Jvm.Cond.code ({ cls := "PlyHouseModel", name := "isLetter", desc := "(I)Z" } : Jvm.MethodName) prog_16_method_12_code (1 : Nat) (Option.some Jvm.ClassFile.FieldType.boolean)) ∈ lw_all := lw_g (lw_at lw_m5 79 rfl) rfl
theorem q1093 : (Jvm.Cond.methodLink "PlyHouseModel" (181 : Nat) ({ cls := "PlyHouseModel", name := "isDigit", desc := "(I)Z" } : Jvm.MethodName)) ∈ lw_all := lw_g (lw_at lw_m5 80 rfl) rfl
theorem q1094 : (Jvm.Cond.static ({ cls := "PlyHouseModel", name := "isDigit", desc := "(I)Z" } : Jvm.MethodName)) ∈ lw_all := lw_g (lw_at lw_m5 81 rfl) rfl
theorem q1095 : (Jvm.Cond.code ({ cls := "PlyHouseModel", name := "isDigit", desc := "(I)Z" } : Jvm.MethodName) prog_16_method_13_code (1 : Nat) (Option.some Jvm.ClassFile.FieldType.boolean)) ∈ lw_all := lw_g (lw_at lw_m5 82 rfl) rfl
theorem q1096 : (Jvm.Cond.methodLink "PlyHouseModel" (184 : Nat) ({ cls := "PlyHouseModel", name := "isSign", desc := "(I)Z" } : Jvm.MethodName)) ∈ lw_all := lw_g (lw_at lw_m5 83 rfl) rfl
theorem q1097 : (Jvm.Cond.static ({ cls := "PlyHouseModel", name := "isSign", desc := "(I)Z" } : Jvm.MethodName)) ∈ lw_all := lw_g (lw_at lw_m5 84 rfl) rfl
theorem q1098 : (Jvm.Cond.code ({ cls := "PlyHouseModel", name := "isSign", desc := "(I)Z" } : Jvm.MethodName) prog_16_method_14_code (1 : Nat) (Option.some Jvm.ClassFile.FieldType.boolean)) ∈ lw_all := lw_g (lw_at lw_m5 85 rfl) rfl
theorem q1099 : (Jvm.Cond.constantLong "PlyHouseModel" (265 : Nat) (444300616805 : Int64)) ∈ lw_all := lw_g (lw_at lw_m5 86 rfl) rfl
theorem q1100 : (Jvm.Cond.methodLink "PlyHouseModel" (241 : Nat) ({ cls := "PlyHouseModel", name := "isWord", desc := "(J)Z" } : Jvm.MethodName)) ∈ lw_all := lw_g (lw_at lw_m5 87 rfl) rfl
theorem q1101 : (Jvm.Cond.privateMethod ({ cls := "PlyHouseModel", name := "isWord", desc := "(J)Z" } : Jvm.MethodName)) ∈ lw_tbl := lw_at lw_m5 88 rfl
theorem q1102 : (Jvm.Cond.instanceMethod ({ cls := "PlyHouseModel", name := "isWord", desc := "(J)Z" } : Jvm.MethodName)) ∈ lw_all := lw_g (lw_at lw_m5 89 rfl) rfl
theorem q1103 : (Jvm.Cond.code ({ cls := "PlyHouseModel", name := "isWord", desc := "(J)Z" } : Jvm.MethodName) prog_16_method_17_code (3 : Nat) (Option.some Jvm.ClassFile.FieldType.boolean)) ∈ lw_all := lw_g (lw_at lw_m5 90 rfl) rfl
theorem q1104 : (Jvm.Cond.methodLink "PlyHouseModel" (203 : Nat) ({ cls := "PlyHouseModel", name := "wrong", desc := "(I)V" } : Jvm.MethodName)) ∈ lw_all := lw_g (lw_at lw_m5 91 rfl) rfl
theorem q1105 : (Jvm.Cond.privateMethod ({ cls := "PlyHouseModel", name := "wrong", desc := "(I)V" } : Jvm.MethodName)) ∈ lw_tbl := lw_at lw_m5 92 rfl
theorem q1106 : (Jvm.Cond.instanceMethod ({ cls := "PlyHouseModel", name := "wrong", desc := "(I)V" } : Jvm.MethodName)) ∈ lw_all := lw_g (lw_at lw_m5 93 rfl) rfl
theorem q1107 : (Jvm.Cond.code ({ cls := "PlyHouseModel", name := "wrong", desc := "(I)V" } : Jvm.MethodName) prog_16_method_16_code (2 : Nat) (Option.none : Option Jvm.ClassFile.FieldType)) ∈ lw_all := lw_g (lw_at lw_m5 94 rfl) rfl
theorem q1108 : (Jvm.Cond.methodLink "PlyHouseModel" (267 : Nat) ({ cls := "PlyHouseModel", name := "told", desc := "(II)I" } : Jvm.MethodName)) ∈ lw_all := lw_g (lw_at lw_m5 95 rfl) rfl
theorem q1109 : (Jvm.Cond.privateMethod ({ cls := "PlyHouseModel", name := "told", desc := "(II)I" } : Jvm.MethodName)) ∈ lw_tbl := lw_at lw_m5 96 rfl
theorem q1110 : (Jvm.Cond.instanceMethod ({ cls := "PlyHouseModel", name := "told", desc := "(II)I" } : Jvm.MethodName)) ∈ lw_all := lw_g (lw_at lw_m5 97 rfl) rfl
theorem q1111 : (Jvm.Cond.code ({ cls := "PlyHouseModel", name := "told", desc := "(II)I" } : Jvm.MethodName) prog_16_method_20_code (4 : Nat) (Option.some Jvm.ClassFile.FieldType.int)) ∈ lw_all := lw_g (lw_at lw_m5 98 rfl) rfl
theorem q1112 : (Jvm.Cond.constantLong "PlyHouseModel" (271 : Nat) (512970880104 : Int64)) ∈ lw_all := lw_g (lw_at lw_m5 99 rfl) rfl
theorem q1113 : (Jvm.Cond.constantLong "PlyHouseModel" (273 : Nat) (2003330414 : Int64)) ∈ lw_all := lw_g (lw_at lw_m5 100 rfl) rfl
theorem q1114 : (Jvm.Cond.methodLink "PlyHouseModel" (275 : Nat) ({ cls := "PlyHouseModel", name := "readE", desc := "()V" } : Jvm.MethodName)) ∈ lw_all := lw_g (lw_at lw_m5 101 rfl) rfl
theorem q1115 : (Jvm.Cond.privateMethod ({ cls := "PlyHouseModel", name := "readE", desc := "()V" } : Jvm.MethodName)) ∈ lw_tbl := lw_at lw_m5 102 rfl
theorem q1116 : (Jvm.Cond.instanceMethod ({ cls := "PlyHouseModel", name := "readE", desc := "()V" } : Jvm.MethodName)) ∈ lw_all := lw_g (lw_at lw_m5 103 rfl) rfl
theorem q1117 : (Jvm.Cond.code ({ cls := "PlyHouseModel", name := "readE", desc := "()V" } : Jvm.MethodName) prog_16_method_25_code (4 : Nat) (Option.none : Option Jvm.ClassFile.FieldType)) ∈ lw_all := lw_g (lw_at lw_m5 104 rfl) rfl
theorem q1118 : (Jvm.Cond.methodLink "PlyHouseModel" (222 : Nat) ({ cls := "PlyHouseModel", name := "isOpen", desc := "()Z" } : Jvm.MethodName)) ∈ lw_all := lw_g (lw_at lw_m5 105 rfl) rfl
theorem q1119 : (Jvm.Cond.privateMethod ({ cls := "PlyHouseModel", name := "isOpen", desc := "()Z" } : Jvm.MethodName)) ∈ lw_tbl := lw_at lw_m5 106 rfl
theorem q1120 : (Jvm.Cond.instanceMethod ({ cls := "PlyHouseModel", name := "isOpen", desc := "()Z" } : Jvm.MethodName)) ∈ lw_all := lw_g (lw_at lw_m5 107 rfl) rfl
theorem q1121 : (Jvm.Cond.code ({ cls := "PlyHouseModel", name := "isOpen", desc := "()Z" } : Jvm.MethodName) prog_16_method_24_code (3 : Nat) (Option.some Jvm.ClassFile.FieldType.boolean)) ∈ lw_all := lw_g (lw_at lw_m5 108 rfl) rfl
theorem q1122 : (Jvm.Cond.methodLink "PlyHouseModel" (226 : Nat) ({ cls := "PlyHouseModel", name := "sign", desc := "(I)I" } : Jvm.MethodName)) ∈ lw_all := lw_g (lw_at lw_m5 109 rfl) rfl
theorem q1123 : (Jvm.Cond.privateMethod ({ cls := "PlyHouseModel", name := "sign", desc := "(I)I" } : Jvm.MethodName)) ∈ lw_tbl := lw_at lw_m5 110 rfl
theorem q1124 : (Jvm.Cond.instanceMethod ({ cls := "PlyHouseModel", name := "sign", desc := "(I)I" } : Jvm.MethodName)) ∈ lw_all := lw_g (lw_at lw_m5 111 rfl) rfl
theorem q1125 : (Jvm.Cond.code ({ cls := "PlyHouseModel", name := "sign", desc := "(I)I" } : Jvm.MethodName) prog_16_method_27_code (3 : Nat) (Option.some Jvm.ClassFile.FieldType.int)) ∈ lw_all := lw_g (lw_at lw_m5 112 rfl) rfl
theorem q1126 : (Jvm.Cond.methodLink "PlyHouseModel" (232 : Nat) ({ cls := "PlyHouseModel", name := "settle", desc := "(I)V" } : Jvm.MethodName)) ∈ lw_all := lw_g (lw_at lw_m5 113 rfl) rfl
theorem q1127 : (Jvm.Cond.privateMethod ({ cls := "PlyHouseModel", name := "settle", desc := "(I)V" } : Jvm.MethodName)) ∈ lw_tbl := lw_at lw_m5 114 rfl
theorem q1128 : (Jvm.Cond.instanceMethod ({ cls := "PlyHouseModel", name := "settle", desc := "(I)V" } : Jvm.MethodName)) ∈ lw_all := lw_g (lw_at lw_m5 115 rfl) rfl
theorem q1129 : (Jvm.Cond.code ({ cls := "PlyHouseModel", name := "settle", desc := "(I)V" } : Jvm.MethodName) prog_16_method_23_code (2 : Nat) (Option.none : Option Jvm.ClassFile.FieldType)) ∈ lw_all := lw_g (lw_at lw_m5 116 rfl) rfl
theorem q1130 : (Jvm.Cond.methodLink "PlyHouseModel" (219 : Nat) ({ cls := "PlyHouseModel", name := "pop", desc := "()V" } : Jvm.MethodName)) ∈ lw_all := lw_g (lw_at lw_m5 117 rfl) rfl
theorem q1131 : (Jvm.Cond.privateMethod ({ cls := "PlyHouseModel", name := "pop", desc := "()V" } : Jvm.MethodName)) ∈ lw_tbl := lw_at lw_m5 118 rfl
theorem q1132 : (Jvm.Cond.instanceMethod ({ cls := "PlyHouseModel", name := "pop", desc := "()V" } : Jvm.MethodName)) ∈ lw_all := lw_g (lw_at lw_m5 119 rfl) rfl
theorem q1133 : (Jvm.Cond.code ({ cls := "PlyHouseModel", name := "pop", desc := "()V" } : Jvm.MethodName) prog_16_method_22_code (1 : Nat) (Option.none : Option Jvm.ClassFile.FieldType)) ∈ lw_all := lw_g (lw_at lw_m5 120 rfl) rfl
theorem q1134 : (Jvm.Cond.methodLink "PlyHouseModel" (215 : Nat) ({ cls := "PlyHouseModel", name := "step", desc := "(II)V" } : Jvm.MethodName)) ∈ lw_all := lw_g (lw_at lw_m5 121 rfl) rfl
theorem q1135 : (Jvm.Cond.privateMethod ({ cls := "PlyHouseModel", name := "step", desc := "(II)V" } : Jvm.MethodName)) ∈ lw_tbl := lw_at lw_m5 122 rfl
theorem q1136 : (Jvm.Cond.instanceMethod ({ cls := "PlyHouseModel", name := "step", desc := "(II)V" } : Jvm.MethodName)) ∈ lw_all := lw_g (lw_at lw_m5 123 rfl) rfl
theorem q1137 : (Jvm.Cond.code ({ cls := "PlyHouseModel", name := "step", desc := "(II)V" } : Jvm.MethodName) prog_16_method_19_code (3 : Nat) (Option.none : Option Jvm.ClassFile.FieldType)) ∈ lw_all := lw_g (lw_at lw_m5 124 rfl) rfl
theorem q1138 : (Jvm.Cond.methodLink "PlyHouseModel" (248 : Nat) ({ cls := "PlyHouseModel", name := "hold", desc := "(I)V" } : Jvm.MethodName)) ∈ lw_all := lw_g (lw_at lw_m5 125 rfl) rfl
theorem q1139 : (Jvm.Cond.privateMethod ({ cls := "PlyHouseModel", name := "hold", desc := "(I)V" } : Jvm.MethodName)) ∈ lw_tbl := lw_at lw_m5 126 rfl
theorem q1140 : (Jvm.Cond.instanceMethod ({ cls := "PlyHouseModel", name := "hold", desc := "(I)V" } : Jvm.MethodName)) ∈ lw_all := lw_g (lw_at lw_m5 127 rfl) rfl
theorem q1141 : (Jvm.Cond.code ({ cls := "PlyHouseModel", name := "hold", desc := "(I)V" } : Jvm.MethodName) prog_16_method_21_code (2 : Nat) (Option.none : Option Jvm.ClassFile.FieldType)) ∈ lw_all := lw_g (lw_at lw_m5 128 rfl) rfl
theorem q1142 : (Jvm.Cond.constantLong "PlyHouseModel" (251 : Nat) (6385252 : Int64)) ∈ lw_all := lw_g (lw_at lw_m5 129 rfl) rfl
theorem q1143 : (Jvm.Cond.constantLong "PlyHouseModel" (253 : Nat) (28530 : Int64)) ∈ lw_all := lw_g (lw_at lw_m5 130 rfl) rfl
theorem q1144 : (Jvm.Cond.methodLink "PlyHouseModel" (255 : Nat) ({ cls := "PlyHouseModel", name := "settleOnes", desc := "(Z)V" } : Jvm.MethodName)) ∈ lw_all := lw_g (lw_at lw_m5 131 rfl) rfl
theorem q1145 : (Jvm.Cond.privateMethod ({ cls := "PlyHouseModel", name := "settleOnes", desc := "(Z)V" } : Jvm.MethodName)) ∈ lw_tbl := lw_at lw_m5 132 rfl
theorem q1146 : (Jvm.Cond.instanceMethod ({ cls := "PlyHouseModel", name := "settleOnes", desc := "(Z)V" } : Jvm.MethodName)) ∈ lw_all := lw_g (lw_at lw_m5 133 rfl) rfl
theorem q1147 : (Jvm.Cond.code ({ cls := "PlyHouseModel", name := "settleOnes", desc := "(Z)V" } : Jvm.MethodName) prog_16_method_28_code (4 : Nat) (Option.none : Option Jvm.ClassFile.FieldType)) ∈ lw_all := lw_g (lw_at lw_m5 134 rfl) rfl
theorem q1148 : (Jvm.Cond.methodLink "PlyHouseModel" (229 : Nat) ({ cls := "PlyHouseModel", name := "operand", desc := "(I)I" } : Jvm.MethodName)) ∈ lw_all := lw_g (lw_at lw_m5 135 rfl) rfl
theorem q1149 : (Jvm.Cond.privateMethod ({ cls := "PlyHouseModel", name := "operand", desc := "(I)I" } : Jvm.MethodName)) ∈ lw_tbl := lw_at lw_m5 136 rfl
theorem q1150 : (Jvm.Cond.instanceMethod ({ cls := "PlyHouseModel", name := "operand", desc := "(I)I" } : Jvm.MethodName)) ∈ lw_all := lw_g (lw_at lw_m5 137 rfl) rfl
theorem q1151 : (Jvm.Cond.code ({ cls := "PlyHouseModel", name := "operand", desc := "(I)I" } : Jvm.MethodName) prog_16_method_26_code (5 : Nat) (Option.some Jvm.ClassFile.FieldType.int)) ∈ lw_all := lw_g (lw_at lw_m5 138 rfl) rfl
theorem q1152 : (Jvm.Cond.methodLink "PlyHouseModel" (235 : Nat) ({ cls := "PlyHouseModel", name := "named", desc := "()I" } : Jvm.MethodName)) ∈ lw_all := lw_g (lw_at lw_m5 139 rfl) rfl
theorem q1153 : (Jvm.Cond.privateMethod ({ cls := "PlyHouseModel", name := "named", desc := "()I" } : Jvm.MethodName)) ∈ lw_tbl := lw_at lw_m5 140 rfl
theorem q1154 : (Jvm.Cond.instanceMethod ({ cls := "PlyHouseModel", name := "named", desc := "()I" } : Jvm.MethodName)) ∈ lw_all := lw_g (lw_at lw_m5 141 rfl) rfl
theorem q1155 : (Jvm.Cond.code ({ cls := "PlyHouseModel", name := "named", desc := "()I" } : Jvm.MethodName) prog_16_method_18_code (1 : Nat) (Option.some Jvm.ClassFile.FieldType.int)) ∈ lw_all := lw_g (lw_at lw_m5 142 rfl) rfl
theorem q1156 : (Jvm.Cond.constantLong "PlyHouseModel" (190 : Nat) (461414298739 : Int64)) ∈ lw_all := lw_g (lw_at lw_m5 143 rfl) rfl
theorem q1157 : (Jvm.Cond.constantLong "PlyHouseModel" (192 : Nat) (126926692381811 : Int64)) ∈ lw_all := lw_g (lw_at lw_m5 144 rfl) rfl
theorem q1158 : (Jvm.Cond.constantLong "PlyHouseModel" (194 : Nat) (448545973619 : Int64)) ∈ lw_all := lw_g (lw_at lw_m5 145 rfl) rfl
theorem q1159 : (Jvm.Cond.constantLong "PlyHouseModel" (196 : Nat) (482855970675 : Int64)) ∈ lw_all := lw_g (lw_at lw_m5 146 rfl) rfl
theorem q1160 : (Jvm.Cond.constantLong "PlyHouseModel" (198 : Nat) (7501166 : Int64)) ∈ lw_all := lw_g (lw_at lw_m5 147 rfl) rfl
theorem q1161 : (Jvm.Cond.constantLong "PlyHouseModel" (239 : Nat) (7237492 : Int64)) ∈ lw_all := lw_g (lw_at lw_m5 148 rfl) rfl
theorem q1163 : (Jvm.Cond.instanceMethod ({ cls := "PlyHouseModel", name := "fault", desc := "(I)I" } : Jvm.MethodName)) ∈ lw_all := lw_g (lw_at lw_m5 150 rfl) rfl
theorem q1164 : (Jvm.Cond.selects "PlyHouseModel" ({ cls := "PlyHouseModel", name := "fault", desc := "(I)I" } : Jvm.MethodName) ({ cls := "PlyHouseModel", name := "fault", desc := "(I)I" } : Jvm.MethodName)) ∈ lw_all := lw_g (lw_at lw_m5 151 rfl) rfl
theorem q1165 : (Jvm.Cond.code ({ cls := "PlyHouseModel", name := "fault", desc := "(I)I" } : Jvm.MethodName) prog_16_method_31_code (2 : Nat) (Option.some Jvm.ClassFile.FieldType.int)) ∈ lw_all := lw_g (lw_at lw_m5 152 rfl) rfl
theorem q1167 : (Jvm.Cond.instanceMethod ({ cls := "PlyHouseModel", name := "leaf", desc := "()I" } : Jvm.MethodName)) ∈ lw_all := lw_g (lw_at lw_m5 154 rfl) rfl
theorem q1168 : (Jvm.Cond.selects "PlyHouseModel" ({ cls := "PlyHouseModel", name := "leaf", desc := "()I" } : Jvm.MethodName) ({ cls := "PlyHouseModel", name := "leaf", desc := "()I" } : Jvm.MethodName)) ∈ lw_all := lw_g (lw_at lw_m5 155 rfl) rfl
theorem q1169 : (Jvm.Cond.code ({ cls := "PlyHouseModel", name := "leaf", desc := "()I" } : Jvm.MethodName) prog_16_method_33_code (2 : Nat) (Option.some Jvm.ClassFile.FieldType.int)) ∈ lw_all := lw_g (lw_at lw_m5 156 rfl) rfl
theorem q1170 : (Jvm.Cond.methodLink "PlyHouseModel" (281 : Nat) ({ cls := "PlyHouseModel", name := "markOf", desc := "(I)I" } : Jvm.MethodName)) ∈ lw_all := lw_g (lw_at lw_m5 157 rfl) rfl
theorem q1171 : (Jvm.Cond.static ({ cls := "PlyHouseModel", name := "markOf", desc := "(I)I" } : Jvm.MethodName)) ∈ lw_all := lw_g (lw_at lw_m5 158 rfl) rfl
theorem q1172 : (Jvm.Cond.code ({ cls := "PlyHouseModel", name := "markOf", desc := "(I)I" } : Jvm.MethodName) prog_16_method_32_code (1 : Nat) (Option.some Jvm.ClassFile.FieldType.int)) ∈ lw_all := lw_g (lw_at lw_m5 159 rfl) rfl
theorem q1174 : (Jvm.Cond.instanceMethod ({ cls := "PlyHouseModel", name := "patch", desc := "(II)Z" } : Jvm.MethodName)) ∈ lw_all := lw_g (lw_at lw_m5 161 rfl) rfl
theorem q1175 : (Jvm.Cond.selects "PlyHouseModel" ({ cls := "PlyHouseModel", name := "patch", desc := "(II)Z" } : Jvm.MethodName) ({ cls := "PlyHouseModel", name := "patch", desc := "(II)Z" } : Jvm.MethodName)) ∈ lw_all := lw_g (lw_at lw_m5 162 rfl) rfl
theorem q1176 : (Jvm.Cond.code ({ cls := "PlyHouseModel", name := "patch", desc := "(II)Z" } : Jvm.MethodName) prog_16_method_34_code (3 : Nat) (Option.some Jvm.ClassFile.FieldType.boolean)) ∈ lw_all := lw_g (lw_at lw_m5 163 rfl) rfl
theorem q1178 : (Jvm.Cond.instanceMethod ({ cls := "PlyHouseModel", name := "sheet", desc := "(III)I" } : Jvm.MethodName)) ∈ lw_all := lw_g (lw_at lw_m5 165 rfl) rfl
theorem q1179 : (Jvm.Cond.selects "PlyHouseModel" ({ cls := "PlyHouseModel", name := "sheet", desc := "(III)I" } : Jvm.MethodName) ({ cls := "PlyHouseModel", name := "sheet", desc := "(III)I" } : Jvm.MethodName)) ∈ lw_all := lw_g (lw_at lw_m5 166 rfl) rfl
theorem q1180 : (Jvm.Cond.code ({ cls := "PlyHouseModel", name := "sheet", desc := "(III)I" } : Jvm.MethodName) prog_16_method_37_code (4 : Nat) (Option.some Jvm.ClassFile.FieldType.int)) ∈ lw_all := lw_g (lw_at lw_m5 167 rfl) rfl
theorem q1181 : (Jvm.Cond.methodLink "PlyHouseModel" (293 : Nat) ({ cls := "PlyHouseModel", name := "isSheet", desc := "(III)Z" } : Jvm.MethodName)) ∈ lw_all := lw_g (lw_at lw_m5 168 rfl) rfl
theorem q1182 : (Jvm.Cond.privateMethod ({ cls := "PlyHouseModel", name := "isSheet", desc := "(III)Z" } : Jvm.MethodName)) ∈ lw_tbl := lw_at lw_m5 169 rfl
theorem q1183 : (Jvm.Cond.instanceMethod ({ cls := "PlyHouseModel", name := "isSheet", desc := "(III)Z" } : Jvm.MethodName)) ∈ lw_all := lw_g (lw_at lw_m5 170 rfl) rfl
theorem q1184 : (Jvm.Cond.code ({ cls := "PlyHouseModel", name := "isSheet", desc := "(III)Z" } : Jvm.MethodName) prog_16_method_36_code (6 : Nat) (Option.some Jvm.ClassFile.FieldType.boolean)) ∈ lw_all := lw_g (lw_at lw_m5 171 rfl) rfl
theorem q1185 : (Jvm.Cond.methodLink "PlyHouseModel" (290 : Nat) ({ cls := "PlyHouseModel", name := "holds", desc := "(I)Z" } : Jvm.MethodName)) ∈ lw_all := lw_g (lw_at lw_m5 172 rfl) rfl
theorem q1186 : (Jvm.Cond.privateMethod ({ cls := "PlyHouseModel", name := "holds", desc := "(I)Z" } : Jvm.MethodName)) ∈ lw_tbl := lw_at lw_m5 173 rfl
theorem q1187 : (Jvm.Cond.instanceMethod ({ cls := "PlyHouseModel", name := "holds", desc := "(I)Z" } : Jvm.MethodName)) ∈ lw_all := lw_g (lw_at lw_m5 174 rfl) rfl
theorem q1188 : (Jvm.Cond.code ({ cls := "PlyHouseModel", name := "holds", desc := "(I)Z" } : Jvm.MethodName) prog_16_method_35_code (7 : Nat) (Option.some Jvm.ClassFile.FieldType.boolean)) ∈ lw_all := lw_g (lw_at lw_m5 175 rfl) rfl
theorem q1190 : (Jvm.Cond.instanceMethod ({ cls := "PlyHouseModel", name := "worth", desc := "()I" } : Jvm.MethodName)) ∈ lw_all := lw_g (lw_at lw_m5 177 rfl) rfl
theorem q1191 : (Jvm.Cond.selects "PlyHouseModel" ({ cls := "PlyHouseModel", name := "worth", desc := "()I" } : Jvm.MethodName) ({ cls := "PlyHouseModel", name := "worth", desc := "()I" } : Jvm.MethodName)) ∈ lw_all := lw_g (lw_at lw_m5 178 rfl) rfl
theorem q1192 : (Jvm.Cond.code ({ cls := "PlyHouseModel", name := "worth", desc := "()I" } : Jvm.MethodName) prog_16_method_40_code (1 : Nat) (Option.some Jvm.ClassFile.FieldType.int)) ∈ lw_all := lw_g (lw_at lw_m5 179 rfl) rfl
theorem q1193 : (Jvm.Cond.methodLink "PlyHouseModel" (303 : Nat) ({ cls := "PlyHouseModel", name := "clip", desc := "()V" } : Jvm.MethodName)) ∈ lw_all := lw_g (lw_at lw_m5 180 rfl) rfl
theorem q1194 : (Jvm.Cond.privateMethod ({ cls := "PlyHouseModel", name := "clip", desc := "()V" } : Jvm.MethodName)) ∈ lw_tbl := lw_at lw_m5 181 rfl
theorem q1195 : (Jvm.Cond.instanceMethod ({ cls := "PlyHouseModel", name := "clip", desc := "()V" } : Jvm.MethodName)) ∈ lw_all := lw_g (lw_at lw_m5 182 rfl) rfl
theorem q1196 : (Jvm.Cond.code ({ cls := "PlyHouseModel", name := "clip", desc := "()V" } : Jvm.MethodName) prog_16_method_39_code (7 : Nat) (Option.none : Option Jvm.ClassFile.FieldType)) ∈ lw_all := lw_g (lw_at lw_m5 183 rfl) rfl
theorem q1197 : (Jvm.Cond.methodLink "PlyHouseModel" (296 : Nat) ({ cls := "PlyHouseModel", name := "cell", desc := "(III)I" } : Jvm.MethodName)) ∈ lw_all := lw_g (lw_at lw_m5 184 rfl) rfl
theorem q1198 : (Jvm.Cond.static ({ cls := "PlyHouseModel", name := "cell", desc := "(III)I" } : Jvm.MethodName)) ∈ lw_all := lw_g (lw_at lw_m5 185 rfl) rfl
theorem q1199 : (Jvm.Cond.code ({ cls := "PlyHouseModel", name := "cell", desc := "(III)I" } : Jvm.MethodName) prog_16_method_38_code (3 : Nat) (Option.some Jvm.ClassFile.FieldType.int)) ∈ lw_all := lw_g (lw_at lw_m5 186 rfl) rfl
theorem q1201 : (Jvm.Cond.instanceMethod ({ cls := "PlyHouseModel", name := "sheets", desc := "()I" } : Jvm.MethodName)) ∈ lw_all := lw_g (lw_at lw_m5 188 rfl) rfl
theorem q1202 : (Jvm.Cond.selects "PlyHouseModel" ({ cls := "PlyHouseModel", name := "sheets", desc := "()I" } : Jvm.MethodName) ({ cls := "PlyHouseModel", name := "sheets", desc := "()I" } : Jvm.MethodName)) ∈ lw_all := lw_g (lw_at lw_m5 189 rfl) rfl
theorem q1203 : (Jvm.Cond.code ({ cls := "PlyHouseModel", name := "sheets", desc := "()I" } : Jvm.MethodName) prog_16_method_41_code (1 : Nat) (Option.some Jvm.ClassFile.FieldType.int)) ∈ lw_all := lw_g (lw_at lw_m5 190 rfl) rfl
theorem q1205 : (Jvm.Cond.instanceMethod ({ cls := "PlyHouseModel", name := "clipped", desc := "(II)I" } : Jvm.MethodName)) ∈ lw_all := lw_g (lw_at lw_m5 192 rfl) rfl
theorem q1206 : (Jvm.Cond.selects "PlyHouseModel" ({ cls := "PlyHouseModel", name := "clipped", desc := "(II)I" } : Jvm.MethodName) ({ cls := "PlyHouseModel", name := "clipped", desc := "(II)I" } : Jvm.MethodName)) ∈ lw_all := lw_g (lw_at lw_m5 193 rfl) rfl
theorem q1207 : (Jvm.Cond.code ({ cls := "PlyHouseModel", name := "clipped", desc := "(II)I" } : Jvm.MethodName) prog_16_method_42_code (3 : Nat) (Option.some Jvm.ClassFile.FieldType.int)) ∈ lw_all := lw_g (lw_at lw_m5 194 rfl) rfl
theorem q1209 : (Jvm.Cond.instanceMethod ({ cls := "PlyHouseModel", name := "veneer", desc := "(IIIIZ)Z" } : Jvm.MethodName)) ∈ lw_all := lw_g (lw_at lw_m5 196 rfl) rfl
theorem q1210 : (Jvm.Cond.selects "PlyHouseModel" ({ cls := "PlyHouseModel", name := "veneer", desc := "(IIIIZ)Z" } : Jvm.MethodName) ({ cls := "PlyHouseModel", name := "veneer", desc := "(IIIIZ)Z" } : Jvm.MethodName)) ∈ lw_all := lw_g (lw_at lw_m5 197 rfl) rfl
theorem q1211 : (Jvm.Cond.code ({ cls := "PlyHouseModel", name := "veneer", desc := "(IIIIZ)Z" } : Jvm.MethodName) prog_16_method_43_code (6 : Nat) (Option.some Jvm.ClassFile.FieldType.boolean)) ∈ lw_all := lw_g (lw_at lw_m5 198 rfl) rfl
theorem q1213 : (Jvm.Cond.instanceMethod ({ cls := "PlyHouseModel", name := "board", desc := "(III)I" } : Jvm.MethodName)) ∈ lw_all := lw_g (lw_at lw_m5 200 rfl) rfl
theorem q1214 : (Jvm.Cond.selects "PlyHouseModel" ({ cls := "PlyHouseModel", name := "board", desc := "(III)I" } : Jvm.MethodName) ({ cls := "PlyHouseModel", name := "board", desc := "(III)I" } : Jvm.MethodName)) ∈ lw_all := lw_g (lw_at lw_m5 201 rfl) rfl
theorem q1215 : (Jvm.Cond.code ({ cls := "PlyHouseModel", name := "board", desc := "(III)I" } : Jvm.MethodName) prog_16_method_46_code (4 : Nat) (Option.some Jvm.ClassFile.FieldType.int)) ∈ lw_all := lw_g (lw_at lw_m5 202 rfl) rfl
theorem q1216 : (Jvm.Cond.methodLink "PlyHouseModel" (306 : Nat) ({ cls := "PlyHouseModel", name := "lays", desc := "(II)Z" } : Jvm.MethodName)) ∈ lw_all := lw_g (lw_at lw_m5 203 rfl) rfl
theorem q1217 : (Jvm.Cond.privateMethod ({ cls := "PlyHouseModel", name := "lays", desc := "(II)Z" } : Jvm.MethodName)) ∈ lw_tbl := lw_at lw_m5 204 rfl
theorem q1218 : (Jvm.Cond.instanceMethod ({ cls := "PlyHouseModel", name := "lays", desc := "(II)Z" } : Jvm.MethodName)) ∈ lw_all := lw_g (lw_at lw_m5 205 rfl) rfl
theorem q1219 : (Jvm.Cond.code ({ cls := "PlyHouseModel", name := "lays", desc := "(II)Z" } : Jvm.MethodName) prog_16_method_44_code (5 : Nat) (Option.some Jvm.ClassFile.FieldType.boolean)) ∈ lw_all := lw_g (lw_at lw_m5 206 rfl) rfl
theorem q1220 : (Jvm.Cond.methodLink "PlyHouseModel" (309 : Nat) ({ cls := "PlyHouseModel", name := "sum", desc := "(II)I" } : Jvm.MethodName)) ∈ lw_all := lw_g (lw_at lw_m5 207 rfl) rfl
theorem q1221 : (Jvm.Cond.privateMethod ({ cls := "PlyHouseModel", name := "sum", desc := "(II)I" } : Jvm.MethodName)) ∈ lw_tbl := lw_at lw_m5 208 rfl
theorem q1222 : (Jvm.Cond.instanceMethod ({ cls := "PlyHouseModel", name := "sum", desc := "(II)I" } : Jvm.MethodName)) ∈ lw_all := lw_g (lw_at lw_m5 209 rfl) rfl
theorem q1223 : (Jvm.Cond.code ({ cls := "PlyHouseModel", name := "sum", desc := "(II)I" } : Jvm.MethodName) prog_16_method_45_code (5 : Nat) (Option.some Jvm.ClassFile.FieldType.int)) ∈ lw_all := lw_g (lw_at lw_m5 210 rfl) rfl
theorem q1225 : (Jvm.Cond.instanceMethod ({ cls := "PlyHouseModel", name := "warp", desc := "(II)I" } : Jvm.MethodName)) ∈ lw_all := lw_g (lw_at lw_m5 212 rfl) rfl
theorem q1226 : (Jvm.Cond.selects "PlyHouseModel" ({ cls := "PlyHouseModel", name := "warp", desc := "(II)I" } : Jvm.MethodName) ({ cls := "PlyHouseModel", name := "warp", desc := "(II)I" } : Jvm.MethodName)) ∈ lw_all := lw_g (lw_at lw_m5 213 rfl) rfl
theorem q1227 : (Jvm.Cond.code ({ cls := "PlyHouseModel", name := "warp", desc := "(II)I" } : Jvm.MethodName) prog_16_method_47_code (7 : Nat) (Option.some Jvm.ClassFile.FieldType.int)) ∈ lw_all := lw_g (lw_at lw_m5 214 rfl) rfl
theorem q1228 : (Jvm.Cond.constant "PlyHouseModel" (312 : Nat) (-2000000 : Int32)) ∈ lw_all := lw_g (lw_at lw_m5 215 rfl) rfl
theorem q1230 : (Jvm.Cond.instanceMethod ({ cls := "PlyHouseModel", name := "best", desc := "(III)I" } : Jvm.MethodName)) ∈ lw_all := lw_g (lw_at lw_m5 217 rfl) rfl
theorem q1231 : (Jvm.Cond.selects "PlyHouseModel" ({ cls := "PlyHouseModel", name := "best", desc := "(III)I" } : Jvm.MethodName) ({ cls := "PlyHouseModel", name := "best", desc := "(III)I" } : Jvm.MethodName)) ∈ lw_all := lw_g (lw_at lw_m5 218 rfl) rfl
theorem q1232 : (Jvm.Cond.code ({ cls := "PlyHouseModel", name := "best", desc := "(III)I" } : Jvm.MethodName) prog_16_method_48_code (12 : Nat) (Option.some Jvm.ClassFile.FieldType.int)) ∈ lw_all := lw_g (lw_at lw_m5 219 rfl) rfl
theorem q1234 : (Jvm.Cond.instanceMethod ({ cls := "PlyHouseModel", name := "press", desc := "(IIII)Z" } : Jvm.MethodName)) ∈ lw_all := lw_g (lw_at lw_m5 221 rfl) rfl
theorem q1235 : (Jvm.Cond.selects "PlyHouseModel" ({ cls := "PlyHouseModel", name := "press", desc := "(IIII)Z" } : Jvm.MethodName) ({ cls := "PlyHouseModel", name := "press", desc := "(IIII)Z" } : Jvm.MethodName)) ∈ lw_all := lw_g (lw_at lw_m5 222 rfl) rfl
theorem q1236 : (Jvm.Cond.code ({ cls := "PlyHouseModel", name := "press", desc := "(IIII)Z" } : Jvm.MethodName) prog_16_method_49_code (5 : Nat) (Option.some Jvm.ClassFile.FieldType.boolean)) ∈ lw_all := lw_g (lw_at lw_m5 223 rfl) rfl
theorem q1238 : (Jvm.Cond.instanceMethod ({ cls := "PlyHouseModel", name := "glue", desc := "(II)I" } : Jvm.MethodName)) ∈ lw_all := lw_g (lw_at lw_m5 225 rfl) rfl
theorem q1239 : (Jvm.Cond.selects "PlyHouseModel" ({ cls := "PlyHouseModel", name := "glue", desc := "(II)I" } : Jvm.MethodName) ({ cls := "PlyHouseModel", name := "glue", desc := "(II)I" } : Jvm.MethodName)) ∈ lw_all := lw_g (lw_at lw_m5 226 rfl) rfl
theorem q1240 : (Jvm.Cond.code ({ cls := "PlyHouseModel", name := "glue", desc := "(II)I" } : Jvm.MethodName) prog_16_method_50_code (3 : Nat) (Option.some Jvm.ClassFile.FieldType.int)) ∈ lw_all := lw_g (lw_at lw_m5 227 rfl) rfl
theorem q1242 : (Jvm.Cond.instanceMethod ({ cls := "PlyHouseModel", name := "drop", desc := "()Z" } : Jvm.MethodName)) ∈ lw_all := lw_g (lw_at lw_m5 229 rfl) rfl
theorem q1243 : (Jvm.Cond.selects "PlyHouseModel" ({ cls := "PlyHouseModel", name := "drop", desc := "()Z" } : Jvm.MethodName) ({ cls := "PlyHouseModel", name := "drop", desc := "()Z" } : Jvm.MethodName)) ∈ lw_all := lw_g (lw_at lw_m5 230 rfl) rfl
theorem q1244 : (Jvm.Cond.code ({ cls := "PlyHouseModel", name := "drop", desc := "()Z" } : Jvm.MethodName) prog_16_method_51_code (1 : Nat) (Option.some Jvm.ClassFile.FieldType.boolean)) ∈ lw_all := lw_g (lw_at lw_m5 231 rfl) rfl
theorem q1246 : (Jvm.Cond.instanceMethod ({ cls := "PlyHouseModel", name := "plan", desc := "(I)I" } : Jvm.MethodName)) ∈ lw_all := lw_g (lw_at lw_m5 233 rfl) rfl
theorem q1247 : (Jvm.Cond.selects "PlyHouseModel" ({ cls := "PlyHouseModel", name := "plan", desc := "(I)I" } : Jvm.MethodName) ({ cls := "PlyHouseModel", name := "plan", desc := "(I)I" } : Jvm.MethodName)) ∈ lw_all := lw_g (lw_at lw_m5 234 rfl) rfl
theorem q1248 : (Jvm.Cond.code ({ cls := "PlyHouseModel", name := "plan", desc := "(I)I" } : Jvm.MethodName) prog_16_method_57_code (2 : Nat) (Option.some Jvm.ClassFile.FieldType.int)) ∈ lw_all := lw_g (lw_at lw_m5 235 rfl) rfl
theorem q1249 : (Jvm.Cond.methodLink "PlyHouseModel" (335 : Nat) ({ cls := "PlyHouseModel", name := "seek", desc := "()V" } : Jvm.MethodName)) ∈ lw_all := lw_g (lw_at lw_m5 236 rfl) rfl
theorem q1250 : (Jvm.Cond.privateMethod ({ cls := "PlyHouseModel", name := "seek", desc := "()V" } : Jvm.MethodName)) ∈ lw_tbl := lw_at lw_m5 237 rfl
theorem q1251 : (Jvm.Cond.instanceMethod ({ cls := "PlyHouseModel", name := "seek", desc := "()V" } : Jvm.MethodName)) ∈ lw_all := lw_g (lw_at lw_m5 238 rfl) rfl
theorem q1252 : (Jvm.Cond.code ({ cls := "PlyHouseModel", name := "seek", desc := "()V" } : Jvm.MethodName) prog_16_method_56_code (4 : Nat) (Option.none : Option Jvm.ClassFile.FieldType)) ∈ lw_all := lw_g (lw_at lw_m5 239 rfl) rfl
theorem q1253 : (Jvm.Cond.constant "PlyHouseModel" (316 : Nat) (1000000000 : Int32)) ∈ lw_all := lw_g (lw_at lw_m6 0 rfl) rfl
theorem q1254 : (Jvm.Cond.methodLink "PlyHouseModel" (329 : Nat) ({ cls := "PlyHouseModel", name := "outBy", desc := "(II)I" } : Jvm.MethodName)) ∈ lw_all := lw_g (lw_at lw_m6 1 rfl) rfl
theorem q1255 : (Jvm.Cond.privateMethod ({ cls := "PlyHouseModel", name := "outBy", desc := "(II)I" } : Jvm.MethodName)) ∈ lw_tbl := lw_at lw_m6 2 rfl
theorem q1256 : (Jvm.Cond.instanceMethod ({ cls := "PlyHouseModel", name := "outBy", desc := "(II)I" } : Jvm.MethodName)) ∈ lw_all := lw_g (lw_at lw_m6 3 rfl) rfl
theorem q1257 : (Jvm.Cond.code ({ cls := "PlyHouseModel", name := "outBy", desc := "(II)I" } : Jvm.MethodName) prog_16_method_55_code (5 : Nat) (Option.some Jvm.ClassFile.FieldType.int)) ∈ lw_all := lw_g (lw_at lw_m6 4 rfl) rfl
theorem q1258 : (Jvm.Cond.methodLink "PlyHouseModel" (320 : Nat) ({ cls := "PlyHouseModel", name := "putIn", desc := "(II)I" } : Jvm.MethodName)) ∈ lw_all := lw_g (lw_at lw_m6 5 rfl) rfl
theorem q1259 : (Jvm.Cond.privateMethod ({ cls := "PlyHouseModel", name := "putIn", desc := "(II)I" } : Jvm.MethodName)) ∈ lw_tbl := lw_at lw_m6 6 rfl
theorem q1260 : (Jvm.Cond.instanceMethod ({ cls := "PlyHouseModel", name := "putIn", desc := "(II)I" } : Jvm.MethodName)) ∈ lw_all := lw_g (lw_at lw_m6 7 rfl) rfl
theorem q1261 : (Jvm.Cond.code ({ cls := "PlyHouseModel", name := "putIn", desc := "(II)I" } : Jvm.MethodName) prog_16_method_53_code (8 : Nat) (Option.some Jvm.ClassFile.FieldType.int)) ∈ lw_all := lw_g (lw_at lw_m6 8 rfl) rfl
theorem q1262 : (Jvm.Cond.methodLink "PlyHouseModel" (317 : Nat) ({ cls := "PlyHouseModel", name := "many", desc := "(I)I" } : Jvm.MethodName)) ∈ lw_all := lw_g (lw_at lw_m6 9 rfl) rfl
theorem q1263 : (Jvm.Cond.static ({ cls := "PlyHouseModel", name := "many", desc := "(I)I" } : Jvm.MethodName)) ∈ lw_all := lw_g (lw_at lw_m6 10 rfl) rfl
theorem q1264 : (Jvm.Cond.code ({ cls := "PlyHouseModel", name := "many", desc := "(I)I" } : Jvm.MethodName) prog_16_method_52_code (3 : Nat) (Option.some Jvm.ClassFile.FieldType.int)) ∈ lw_all := lw_g (lw_at lw_m6 11 rfl) rfl
theorem q1265 : (Jvm.Cond.methodLink "PlyHouseModel" (323 : Nat) ({ cls := "PlyHouseModel", name := "lasts", desc := "(I)I" } : Jvm.MethodName)) ∈ lw_all := lw_g (lw_at lw_m6 12 rfl) rfl
theorem q1266 : (Jvm.Cond.privateMethod ({ cls := "PlyHouseModel", name := "lasts", desc := "(I)I" } : Jvm.MethodName)) ∈ lw_tbl := lw_at lw_m6 13 rfl
theorem q1267 : (Jvm.Cond.instanceMethod ({ cls := "PlyHouseModel", name := "lasts", desc := "(I)I" } : Jvm.MethodName)) ∈ lw_all := lw_g (lw_at lw_m6 14 rfl) rfl
theorem q1268 : (Jvm.Cond.code ({ cls := "PlyHouseModel", name := "lasts", desc := "(I)I" } : Jvm.MethodName) prog_16_method_54_code (3 : Nat) (Option.some Jvm.ClassFile.FieldType.int)) ∈ lw_all := lw_g (lw_at lw_m6 15 rfl) rfl
theorem q1270 : (Jvm.Cond.instanceMethod ({ cls := "PlyHouseModel", name := "load", desc := "(II)I" } : Jvm.MethodName)) ∈ lw_all := lw_g (lw_at lw_m6 17 rfl) rfl
theorem q1271 : (Jvm.Cond.selects "PlyHouseModel" ({ cls := "PlyHouseModel", name := "load", desc := "(II)I" } : Jvm.MethodName) ({ cls := "PlyHouseModel", name := "load", desc := "(II)I" } : Jvm.MethodName)) ∈ lw_all := lw_g (lw_at lw_m6 18 rfl) rfl
theorem q1272 : (Jvm.Cond.code ({ cls := "PlyHouseModel", name := "load", desc := "(II)I" } : Jvm.MethodName) prog_16_method_58_code (3 : Nat) (Option.some Jvm.ClassFile.FieldType.int)) ∈ lw_all := lw_g (lw_at lw_m6 19 rfl) rfl
theorem q1274 : (Jvm.Cond.instanceMethod ({ cls := "PlyHouseModel", name := "about", desc := "(I)I" } : Jvm.MethodName)) ∈ lw_all := lw_g (lw_at lw_m6 21 rfl) rfl
theorem q1275 : (Jvm.Cond.selects "PlyHouseModel" ({ cls := "PlyHouseModel", name := "about", desc := "(I)I" } : Jvm.MethodName) ({ cls := "PlyHouseModel", name := "about", desc := "(I)I" } : Jvm.MethodName)) ∈ lw_all := lw_g (lw_at lw_m6 22 rfl) rfl
theorem q1276 : (Jvm.Cond.code ({ cls := "PlyHouseModel", name := "about", desc := "(I)I" } : Jvm.MethodName) prog_16_method_59_code (2 : Nat) (Option.some Jvm.ClassFile.FieldType.int)) ∈ lw_all := lw_g (lw_at lw_m6 23 rfl) rfl
theorem in_X3 : ∀ w ∈ wsX30, w ∈ lw_all := lw_in wsX30 [914, 916, 918, 920, 922, 924, 926, 928, 930, 932, 934, 936, 938, 940, 942, 944, 946, 948, 950, 952, 954, 956, 958, 960, 962, 964, 966, 968, 970, 972, 974, 976, 978, 980, 982, 984, 986, 988, 990, 992, 994, 996, 998, 1000, 1002, 1004, 1006, 1008, 1010, 1012, 1014, 1016, 1018, 1020, 1022, 1024, 1026, 1028, 1030, 1032, 1034] (by decide +kernel) (by decide +kernel)
