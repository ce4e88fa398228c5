/-! the law's own entry -/
set_option maxRecDepth 100000
abbrev cL_law : ByteArray := code
def dkwL_law_34 : List UInt8 := [167, 252, 164, 4, 172]
abbrev dktL_law_34 : List UInt8 := dkwL_law_34 ++ []
def dkwL_law_33 : List UInt8 := [29, 4, 96, 46, 182, 0, 110, 44, 42, 29, 4, 96, 46, 182, 0, 113, 159, 0, 5, 3, 172, 132, 3, 6]
abbrev dktL_law_33 : List UInt8 := dkwL_law_33 ++ dktL_law_34
def dkwL_law_32 : List UInt8 := [182, 0, 106, 44, 42, 29, 4, 96, 46, 42, 29, 5, 96, 46, 182, 0, 109, 159, 0, 28, 3, 172, 43, 42]
abbrev dktL_law_32 : List UInt8 := dkwL_law_32 ++ dktL_law_33
def dkwL_law_31 : List UInt8 := [4, 96, 46, 182, 0, 105, 159, 0, 61, 3, 172, 43, 42, 29, 4, 96, 46, 42, 29, 5, 96, 46]
abbrev dktL_law_31 : List UInt8 := dkwL_law_31 ++ dktL_law_32
def dkwL_law_30 : List UInt8 := [182, 0, 97, 44, 182, 0, 101, 159, 0, 84, 3, 172, 43, 42, 29, 4, 96, 46, 182, 0, 102, 44, 42, 29]
abbrev dktL_law_30 : List UInt8 := dkwL_law_30 ++ dktL_law_31
def dkwL_law_29 : List UInt8 := [46, 182, 0, 93, 44, 42, 29, 4, 96, 46, 42, 29, 5, 96, 46, 182, 0, 96, 159, 0, 97, 3, 172, 43]
abbrev dktL_law_29 : List UInt8 := dkwL_law_29 ++ dktL_law_30
def dkwL_law_28 : List UInt8 := [46, 42, 29, 7, 96, 46, 182, 0, 92, 159, 0, 130, 3, 172, 43, 42, 29, 4, 96, 46, 42, 29, 5, 96]
abbrev dktL_law_28 : List UInt8 := dkwL_law_28 ++ dktL_law_29
def dkwL_law_27 : List UInt8 := [46, 42, 29, 7, 96, 46, 182, 0, 88, 44, 42, 29, 4, 96, 46, 42, 29, 5, 96, 46, 42, 29, 6, 96]
abbrev dktL_law_27 : List UInt8 := dkwL_law_27 ++ dktL_law_28
def dkwL_law_26 : List UInt8 := [46, 182, 0, 87, 159, 0, 183, 3, 172, 43, 42, 29, 4, 96, 46, 42, 29, 5, 96, 46, 42, 29, 6, 96]
abbrev dktL_law_26 : List UInt8 := dkwL_law_26 ++ dktL_law_27
def dkwL_law_25 : List UInt8 := [46, 42, 29, 6, 96, 46, 182, 0, 84, 44, 42, 29, 4, 96, 46, 42, 29, 5, 96, 46, 42, 29, 6, 96]
abbrev dktL_law_25 : List UInt8 := dkwL_law_25 ++ dktL_law_26
def dkwL_law_24 : List UInt8 := [46, 42, 29, 5, 96, 46, 182, 0, 83, 159, 0, 226, 3, 172, 43, 42, 29, 4, 96, 46, 42, 29, 5, 96]
abbrev dktL_law_24 : List UInt8 := dkwL_law_24 ++ dktL_law_25
def dkwL_law_23 : List UInt8 := [159, 1, 3, 3, 172, 43, 42, 29, 4, 96, 46, 42, 29, 5, 96, 46, 182, 0, 80, 44, 42, 29, 4, 96]
abbrev dktL_law_23 : List UInt8 := dkwL_law_23 ++ dktL_law_24
def dkwL_law_22 : List UInt8 := [182, 0, 76, 44, 42, 29, 4, 96, 46, 42, 29, 5, 96, 46, 42, 29, 6, 96, 46, 182, 0, 79]
abbrev dktL_law_22 : List UInt8 := dkwL_law_22 ++ dktL_law_23
def dkwL_law_21 : List UInt8 := [182, 0, 75, 159, 1, 46, 3, 172, 43, 42, 29, 4, 96, 46, 42, 29, 5, 96, 46, 42, 29, 6, 96, 46]
abbrev dktL_law_21 : List UInt8 := dkwL_law_21 ++ dktL_law_22
def dkwL_law_20 : List UInt8 := [42, 29, 6, 96, 46, 42, 29, 7, 96, 46, 42, 29, 8, 96, 46, 153, 0, 7, 4, 167, 0, 4, 3]
abbrev dktL_law_20 : List UInt8 := dkwL_law_20 ++ dktL_law_21
def dkwL_law_19 : List UInt8 := [96, 46, 153, 0, 7, 4, 167, 0, 4, 3, 182, 0, 71, 44, 42, 29, 4, 96, 46, 42, 29, 5, 96, 46]
abbrev dktL_law_19 : List UInt8 := dkwL_law_19 ++ dktL_law_20
def dkwL_law_18 : List UInt8 := [43, 42, 29, 4, 96, 46, 42, 29, 5, 96, 46, 42, 29, 6, 96, 46, 42, 29, 7, 96, 46, 42, 29, 8]
abbrev dktL_law_18 : List UInt8 := dkwL_law_18 ++ dktL_law_19
def dkwL_law_17 : List UInt8 := [96, 46, 182, 0, 67, 44, 42, 29, 4, 96, 46, 42, 29, 5, 96, 46, 182, 0, 70, 159, 1, 125, 3, 172]
abbrev dktL_law_17 : List UInt8 := dkwL_law_17 ++ dktL_law_18
def dkwL_law_16 : List UInt8 := [3, 172, 43, 182, 0, 63, 44, 182, 0, 66, 159, 1, 158, 3, 172, 43, 42, 29, 4, 96, 46, 42, 29, 5]
abbrev dktL_law_16 : List UInt8 := dkwL_law_16 ++ dktL_law_17
def dkwL_law_15 : List UInt8 := [42, 29, 6, 96, 46, 182, 0, 58, 159, 1, 184, 3, 172, 43, 182, 0, 59, 44, 182, 0, 62, 159, 1, 171]
abbrev dktL_law_15 : List UInt8 := dkwL_law_15 ++ dktL_law_16
def dkwL_law_14 : List UInt8 := [42, 29, 5, 96, 46, 42, 29, 6, 96, 46, 182, 0, 54, 44, 42, 29, 4, 96, 46, 42, 29, 5, 96, 46]
abbrev dktL_law_14 : List UInt8 := dkwL_law_14 ++ dktL_law_15
def dkwL_law_13 : List UInt8 := [42, 29, 4, 96, 46, 42, 29, 5, 96, 46, 182, 0, 53, 159, 1, 227, 3, 172, 43, 42, 29, 4, 96, 46]
abbrev dktL_law_13 : List UInt8 := dkwL_law_13 ++ dktL_law_14
def dkwL_law_12 : List UInt8 := [44, 182, 0, 49, 159, 2, 4, 3, 172, 43, 42, 29, 4, 96, 46, 42, 29, 5, 96, 46, 182, 0, 50, 44]
abbrev dktL_law_12 : List UInt8 := dkwL_law_12 ++ dktL_law_13
def dkwL_law_11 : List UInt8 := [4, 96, 46, 182, 0, 42, 44, 42, 29, 4, 96, 46, 182, 0, 45, 159, 2, 17, 3, 172, 43, 182, 0, 46]
abbrev dktL_law_11 : List UInt8 := dkwL_law_11 ++ dktL_law_12
def dkwL_law_10 : List UInt8 := [182, 0, 36, 159, 2, 53, 3, 172, 43, 182, 0, 37, 44, 182, 0, 41, 159, 2, 40, 3, 172, 43, 42, 29]
abbrev dktL_law_10 : List UInt8 := dkwL_law_10 ++ dktL_law_11
def dkwL_law_9 : List UInt8 := [182, 0, 32, 159, 2, 76, 3, 172, 43, 42, 29, 4, 96, 46, 182, 0, 33, 44, 42, 29, 4, 96, 46]
abbrev dktL_law_9 : List UInt8 := dkwL_law_9 ++ dktL_law_10
def dkwL_law_8 : List UInt8 := [29, 4, 96, 46, 42, 29, 5, 96, 46, 42, 29, 6, 96, 46, 42, 29, 7, 96, 46, 42, 29, 8, 96, 46]
abbrev dktL_law_8 : List UInt8 := dkwL_law_8 ++ dktL_law_9
def dkwL_law_7 : List UInt8 := [29, 5, 96, 46, 42, 29, 6, 96, 46, 42, 29, 7, 96, 46, 42, 29, 8, 96, 46, 182, 0, 28, 44, 42]
abbrev dktL_law_7 : List UInt8 := dkwL_law_7 ++ dktL_law_8
def dkwL_law_6 : List UInt8 := [29, 4, 96, 46, 42, 29, 5, 96, 46, 182, 0, 27, 159, 2, 139, 3, 172, 43, 42, 29, 4, 96, 46, 42]
abbrev dktL_law_6 : List UInt8 := dkwL_law_6 ++ dktL_law_7
def dkwL_law_5 : List UInt8 := [182, 0, 22, 159, 2, 172, 3, 172, 43, 42, 29, 4, 96, 46, 42, 29, 5, 96, 46, 182, 0, 23, 44, 42]
abbrev dktL_law_5 : List UInt8 := dkwL_law_5 ++ dktL_law_6
def dkwL_law_4 : List UInt8 := [46, 182, 0, 17, 159, 2, 195, 3, 172, 43, 42, 29, 4, 96, 46, 182, 0, 18, 44, 42, 29, 4, 96, 46]
abbrev dktL_law_4 : List UInt8 := dkwL_law_4 ++ dktL_law_5
def dkwL_law_3 : List UInt8 := [43, 42, 29, 4, 96, 46, 42, 29, 5, 96, 46, 182, 0, 13, 44, 42, 29, 4, 96, 46, 42, 29, 5, 96]
abbrev dktL_law_3 : List UInt8 := dkwL_law_3 ++ dktL_law_4
def dkwL_law_2 : List UInt8 := [170, 0, 0, 0, 0, 3, 74, 0, 0, 0, 0, 0, 0, 0, 22, 0, 0, 0, 107, 0, 0, 0, 140, 0, 0, 0, 163, 0, 0, 0, 196, 0, 0, 1, 3, 0, 0, 1, 26, 0, 0, 1, 39, 0, 0, 1, 62, 0, 0, 1, 75, 0, 0, 1, 108, 0, 0, 1, 151, 0, 0, 1, 164, 0, 0, 1, 177, 0, 0, 1, 210, 0, 0, 2, 33, 0, 0, 2, 76, 0, 0, 2, 109, 0, 0, 2, 152, 0, 0, 2, 205, 0, 0, 2, 238, 0, 0, 2, 251, 0, 0, 3, 18, 0, 0, 3, 51]
abbrev dktL_law_2 : List UInt8 := dkwL_law_2 ++ dktL_law_3
def dkwL_law_1 : List UInt8 := [163, 3, 89, 42, 29, 46, 16, 31, 126]
abbrev dktL_law_1 : List UInt8 := dkwL_law_1 ++ dktL_law_2
def dkwL_law_0 : List UInt8 := [187, 0, 7, 89, 183, 0, 9, 76, 187, 0, 10, 89, 183, 0, 12, 77, 3, 62, 29, 42, 190, 16, 6, 100]
abbrev dktL_law_0 : List UInt8 := dkwL_law_0 ++ dktL_law_1
theorem dksL_law_0 : cL_law.data.toList.drop 0 = dktL_law_0 := by decide +kernel
theorem dksL_law_1 : cL_law.data.toList.drop 24 = dktL_law_1 := dk_seg dksL_law_0 24 rfl rfl
theorem dksL_law_2 : cL_law.data.toList.drop 33 = dktL_law_2 := dk_seg dksL_law_1 9 rfl rfl
theorem dksL_law_3 : cL_law.data.toList.drop 140 = dktL_law_3 := dk_seg dksL_law_2 107 rfl rfl
theorem dksL_law_4 : cL_law.data.toList.drop 164 = dktL_law_4 := dk_seg dksL_law_3 24 rfl rfl
theorem dksL_law_5 : cL_law.data.toList.drop 188 = dktL_law_5 := dk_seg dksL_law_4 24 rfl rfl
theorem dksL_law_6 : cL_law.data.toList.drop 212 = dktL_law_6 := dk_seg dksL_law_5 24 rfl rfl
theorem dksL_law_7 : cL_law.data.toList.drop 236 = dktL_law_7 := dk_seg dksL_law_6 24 rfl rfl
theorem dksL_law_8 : cL_law.data.toList.drop 260 = dktL_law_8 := dk_seg dksL_law_7 24 rfl rfl
theorem dksL_law_9 : cL_law.data.toList.drop 284 = dktL_law_9 := dk_seg dksL_law_8 24 rfl rfl
theorem dksL_law_10 : cL_law.data.toList.drop 307 = dktL_law_10 := dk_seg dksL_law_9 23 rfl rfl
theorem dksL_law_11 : cL_law.data.toList.drop 331 = dktL_law_11 := dk_seg dksL_law_10 24 rfl rfl
theorem dksL_law_12 : cL_law.data.toList.drop 355 = dktL_law_12 := dk_seg dksL_law_11 24 rfl rfl
theorem dksL_law_13 : cL_law.data.toList.drop 379 = dktL_law_13 := dk_seg dksL_law_12 24 rfl rfl
theorem dksL_law_14 : cL_law.data.toList.drop 403 = dktL_law_14 := dk_seg dksL_law_13 24 rfl rfl
theorem dksL_law_15 : cL_law.data.toList.drop 427 = dktL_law_15 := dk_seg dksL_law_14 24 rfl rfl
theorem dksL_law_16 : cL_law.data.toList.drop 451 = dktL_law_16 := dk_seg dksL_law_15 24 rfl rfl
theorem dksL_law_17 : cL_law.data.toList.drop 475 = dktL_law_17 := dk_seg dksL_law_16 24 rfl rfl
theorem dksL_law_18 : cL_law.data.toList.drop 499 = dktL_law_18 := dk_seg dksL_law_17 24 rfl rfl
theorem dksL_law_19 : cL_law.data.toList.drop 523 = dktL_law_19 := dk_seg dksL_law_18 24 rfl rfl
theorem dksL_law_20 : cL_law.data.toList.drop 547 = dktL_law_20 := dk_seg dksL_law_19 24 rfl rfl
theorem dksL_law_21 : cL_law.data.toList.drop 570 = dktL_law_21 := dk_seg dksL_law_20 23 rfl rfl
theorem dksL_law_22 : cL_law.data.toList.drop 594 = dktL_law_22 := dk_seg dksL_law_21 24 rfl rfl
theorem dksL_law_23 : cL_law.data.toList.drop 616 = dktL_law_23 := dk_seg dksL_law_22 22 rfl rfl
theorem dksL_law_24 : cL_law.data.toList.drop 640 = dktL_law_24 := dk_seg dksL_law_23 24 rfl rfl
theorem dksL_law_25 : cL_law.data.toList.drop 664 = dktL_law_25 := dk_seg dksL_law_24 24 rfl rfl
theorem dksL_law_26 : cL_law.data.toList.drop 688 = dktL_law_26 := dk_seg dksL_law_25 24 rfl rfl
theorem dksL_law_27 : cL_law.data.toList.drop 712 = dktL_law_27 := dk_seg dksL_law_26 24 rfl rfl
theorem dksL_law_28 : cL_law.data.toList.drop 736 = dktL_law_28 := dk_seg dksL_law_27 24 rfl rfl
theorem dksL_law_29 : cL_law.data.toList.drop 760 = dktL_law_29 := dk_seg dksL_law_28 24 rfl rfl
theorem dksL_law_30 : cL_law.data.toList.drop 784 = dktL_law_30 := dk_seg dksL_law_29 24 rfl rfl
theorem dksL_law_31 : cL_law.data.toList.drop 808 = dktL_law_31 := dk_seg dksL_law_30 24 rfl rfl
theorem dksL_law_32 : cL_law.data.toList.drop 830 = dktL_law_32 := dk_seg dksL_law_31 22 rfl rfl
theorem dksL_law_33 : cL_law.data.toList.drop 854 = dktL_law_33 := dk_seg dksL_law_32 24 rfl rfl
theorem dksL_law_34 : cL_law.data.toList.drop 878 = dktL_law_34 := dk_seg dksL_law_33 24 rfl rfl
theorem dL_law_0 : decode cL_law 0 = .ok (.new 7, 3) := dk_187 0 7 (dk_at dksL_law_0 0 rfl rfl)
theorem dL_law_3 : decode cL_law 3 = .ok (.dup, 1) := dk_89 (dk_at dksL_law_0 3 rfl rfl)
theorem dL_law_4 : decode cL_law 4 = .ok (.invokespecial 9, 3) := dk_183 0 9 (dk_at dksL_law_0 4 rfl rfl)
theorem dL_law_7 : decode cL_law 7 = .ok (.astore_n 1, 1) := dk_76 (dk_at dksL_law_0 7 rfl rfl)
theorem dL_law_8 : decode cL_law 8 = .ok (.new 10, 3) := dk_187 0 10 (dk_at dksL_law_0 8 rfl rfl)
theorem dL_law_11 : decode cL_law 11 = .ok (.dup, 1) := dk_89 (dk_at dksL_law_0 11 rfl rfl)
theorem dL_law_12 : decode cL_law 12 = .ok (.invokespecial 12, 3) := dk_183 0 12 (dk_at dksL_law_0 12 rfl rfl)
theorem dL_law_15 : decode cL_law 15 = .ok (.astore_n 2, 1) := dk_77 (dk_at dksL_law_0 15 rfl rfl)
theorem dL_law_16 : decode cL_law 16 = .ok (.iconst 0, 1) := dk_3 (dk_at dksL_law_0 16 rfl rfl)
theorem dL_law_17 : decode cL_law 17 = .ok (.istore_n 3, 1) := dk_62 (dk_at dksL_law_0 17 rfl rfl)
theorem dL_law_18 : decode cL_law 18 = .ok (.iload_n 3, 1) := dk_29 (dk_at dksL_law_0 18 rfl rfl)
theorem dL_law_19 : decode cL_law 19 = .ok (.aload_n 0, 1) := dk_42 (dk_at dksL_law_0 19 rfl rfl)
theorem dL_law_20 : decode cL_law 20 = .ok (.arraylength, 1) := dk_190 (dk_at dksL_law_0 20 rfl rfl)
theorem dL_law_21 : decode cL_law 21 = .ok (.bipush 6, 2) := dk_16 6 (dk_at dksL_law_0 21 rfl rfl)
theorem dL_law_23 : decode cL_law 23 = .ok (.isub, 1) := dk_100 (dk_at dksL_law_0 23 rfl rfl)
theorem dL_law_24 : decode cL_law 24 = .ok (.if_icmp .gt 857, 3) := dk_163 3 89 (dk_at dksL_law_1 0 rfl rfl)
theorem dL_law_27 : decode cL_law 27 = .ok (.aload_n 0, 1) := dk_42 (dk_at dksL_law_1 3 rfl rfl)
theorem dL_law_28 : decode cL_law 28 = .ok (.iload_n 3, 1) := dk_29 (dk_at dksL_law_1 4 rfl rfl)
theorem dL_law_29 : decode cL_law 29 = .ok (.iaload, 1) := dk_46 (dk_at dksL_law_1 5 rfl rfl)
theorem dL_law_30 : decode cL_law 30 = .ok (.bipush 31, 2) := dk_16 31 (dk_at dksL_law_1 6 rfl rfl)
theorem dL_law_32 : decode cL_law 32 = .ok (.iand, 1) := dk_126 (dk_at dksL_law_1 8 rfl rfl)
theorem dL_law_33 : decode cL_law 33 = .ok (.tableswitch 842 0 22 #[107, 140, 163, 196, 259, 282, 295, 318, 331, 364, 407, 420, 433, 466, 545, 588, 621, 664, 717, 750, 763, 786, 819], 107) := by decide +kernel
theorem dL_law_140 : decode cL_law 140 = .ok (.aload_n 1, 1) := dk_43 (dk_at dksL_law_3 0 rfl rfl)
theorem dL_law_141 : decode cL_law 141 = .ok (.aload_n 0, 1) := dk_42 (dk_at dksL_law_3 1 rfl rfl)
theorem dL_law_142 : decode cL_law 142 = .ok (.iload_n 3, 1) := dk_29 (dk_at dksL_law_3 2 rfl rfl)
theorem dL_law_143 : decode cL_law 143 = .ok (.iconst 1, 1) := dk_4 (dk_at dksL_law_3 3 rfl rfl)
theorem dL_law_144 : decode cL_law 144 = .ok (.iadd, 1) := dk_96 (dk_at dksL_law_3 4 rfl rfl)
theorem dL_law_145 : decode cL_law 145 = .ok (.iaload, 1) := dk_46 (dk_at dksL_law_3 5 rfl rfl)
theorem dL_law_146 : decode cL_law 146 = .ok (.aload_n 0, 1) := dk_42 (dk_at dksL_law_3 6 rfl rfl)
theorem dL_law_147 : decode cL_law 147 = .ok (.iload_n 3, 1) := dk_29 (dk_at dksL_law_3 7 rfl rfl)
theorem dL_law_148 : decode cL_law 148 = .ok (.iconst 2, 1) := dk_5 (dk_at dksL_law_3 8 rfl rfl)
theorem dL_law_149 : decode cL_law 149 = .ok (.iadd, 1) := dk_96 (dk_at dksL_law_3 9 rfl rfl)
theorem dL_law_150 : decode cL_law 150 = .ok (.iaload, 1) := dk_46 (dk_at dksL_law_3 10 rfl rfl)
theorem dL_law_151 : decode cL_law 151 = .ok (.invokevirtual 13, 3) := dk_182 0 13 (dk_at dksL_law_3 11 rfl rfl)
theorem dL_law_154 : decode cL_law 154 = .ok (.aload_n 2, 1) := dk_44 (dk_at dksL_law_3 14 rfl rfl)
theorem dL_law_155 : decode cL_law 155 = .ok (.aload_n 0, 1) := dk_42 (dk_at dksL_law_3 15 rfl rfl)
theorem dL_law_156 : decode cL_law 156 = .ok (.iload_n 3, 1) := dk_29 (dk_at dksL_law_3 16 rfl rfl)
theorem dL_law_157 : decode cL_law 157 = .ok (.iconst 1, 1) := dk_4 (dk_at dksL_law_3 17 rfl rfl)
theorem dL_law_158 : decode cL_law 158 = .ok (.iadd, 1) := dk_96 (dk_at dksL_law_3 18 rfl rfl)
theorem dL_law_159 : decode cL_law 159 = .ok (.iaload, 1) := dk_46 (dk_at dksL_law_3 19 rfl rfl)
theorem dL_law_160 : decode cL_law 160 = .ok (.aload_n 0, 1) := dk_42 (dk_at dksL_law_3 20 rfl rfl)
theorem dL_law_161 : decode cL_law 161 = .ok (.iload_n 3, 1) := dk_29 (dk_at dksL_law_3 21 rfl rfl)
theorem dL_law_162 : decode cL_law 162 = .ok (.iconst 2, 1) := dk_5 (dk_at dksL_law_3 22 rfl rfl)
theorem dL_law_163 : decode cL_law 163 = .ok (.iadd, 1) := dk_96 (dk_at dksL_law_3 23 rfl rfl)
theorem dL_law_164 : decode cL_law 164 = .ok (.iaload, 1) := dk_46 (dk_at dksL_law_4 0 rfl rfl)
theorem dL_law_165 : decode cL_law 165 = .ok (.invokevirtual 17, 3) := dk_182 0 17 (dk_at dksL_law_4 1 rfl rfl)
theorem dL_law_168 : decode cL_law 168 = .ok (.if_icmp .eq 707, 3) := dk_159 2 195 (dk_at dksL_law_4 4 rfl rfl)
theorem dL_law_171 : decode cL_law 171 = .ok (.iconst 0, 1) := dk_3 (dk_at dksL_law_4 7 rfl rfl)
theorem dL_law_172 : decode cL_law 172 = .ok (.ireturn, 1) := dk_172 (dk_at dksL_law_4 8 rfl rfl)
theorem dL_law_173 : decode cL_law 173 = .ok (.aload_n 1, 1) := dk_43 (dk_at dksL_law_4 9 rfl rfl)
theorem dL_law_174 : decode cL_law 174 = .ok (.aload_n 0, 1) := dk_42 (dk_at dksL_law_4 10 rfl rfl)
theorem dL_law_175 : decode cL_law 175 = .ok (.iload_n 3, 1) := dk_29 (dk_at dksL_law_4 11 rfl rfl)
theorem dL_law_176 : decode cL_law 176 = .ok (.iconst 1, 1) := dk_4 (dk_at dksL_law_4 12 rfl rfl)
theorem dL_law_177 : decode cL_law 177 = .ok (.iadd, 1) := dk_96 (dk_at dksL_law_4 13 rfl rfl)
theorem dL_law_178 : decode cL_law 178 = .ok (.iaload, 1) := dk_46 (dk_at dksL_law_4 14 rfl rfl)
theorem dL_law_179 : decode cL_law 179 = .ok (.invokevirtual 18, 3) := dk_182 0 18 (dk_at dksL_law_4 15 rfl rfl)
theorem dL_law_182 : decode cL_law 182 = .ok (.aload_n 2, 1) := dk_44 (dk_at dksL_law_4 18 rfl rfl)
theorem dL_law_183 : decode cL_law 183 = .ok (.aload_n 0, 1) := dk_42 (dk_at dksL_law_4 19 rfl rfl)
theorem dL_law_184 : decode cL_law 184 = .ok (.iload_n 3, 1) := dk_29 (dk_at dksL_law_4 20 rfl rfl)
theorem dL_law_185 : decode cL_law 185 = .ok (.iconst 1, 1) := dk_4 (dk_at dksL_law_4 21 rfl rfl)
theorem dL_law_186 : decode cL_law 186 = .ok (.iadd, 1) := dk_96 (dk_at dksL_law_4 22 rfl rfl)
theorem dL_law_187 : decode cL_law 187 = .ok (.iaload, 1) := dk_46 (dk_at dksL_law_4 23 rfl rfl)
theorem dL_law_188 : decode cL_law 188 = .ok (.invokevirtual 22, 3) := dk_182 0 22 (dk_at dksL_law_5 0 rfl rfl)
theorem dL_law_191 : decode cL_law 191 = .ok (.if_icmp .eq 684, 3) := dk_159 2 172 (dk_at dksL_law_5 3 rfl rfl)
theorem dL_law_194 : decode cL_law 194 = .ok (.iconst 0, 1) := dk_3 (dk_at dksL_law_5 6 rfl rfl)
theorem dL_law_195 : decode cL_law 195 = .ok (.ireturn, 1) := dk_172 (dk_at dksL_law_5 7 rfl rfl)
theorem dL_law_196 : decode cL_law 196 = .ok (.aload_n 1, 1) := dk_43 (dk_at dksL_law_5 8 rfl rfl)
theorem dL_law_197 : decode cL_law 197 = .ok (.aload_n 0, 1) := dk_42 (dk_at dksL_law_5 9 rfl rfl)
theorem dL_law_198 : decode cL_law 198 = .ok (.iload_n 3, 1) := dk_29 (dk_at dksL_law_5 10 rfl rfl)
theorem dL_law_199 : decode cL_law 199 = .ok (.iconst 1, 1) := dk_4 (dk_at dksL_law_5 11 rfl rfl)
theorem dL_law_200 : decode cL_law 200 = .ok (.iadd, 1) := dk_96 (dk_at dksL_law_5 12 rfl rfl)
theorem dL_law_201 : decode cL_law 201 = .ok (.iaload, 1) := dk_46 (dk_at dksL_law_5 13 rfl rfl)
theorem dL_law_202 : decode cL_law 202 = .ok (.aload_n 0, 1) := dk_42 (dk_at dksL_law_5 14 rfl rfl)
theorem dL_law_203 : decode cL_law 203 = .ok (.iload_n 3, 1) := dk_29 (dk_at dksL_law_5 15 rfl rfl)
theorem dL_law_204 : decode cL_law 204 = .ok (.iconst 2, 1) := dk_5 (dk_at dksL_law_5 16 rfl rfl)
theorem dL_law_205 : decode cL_law 205 = .ok (.iadd, 1) := dk_96 (dk_at dksL_law_5 17 rfl rfl)
theorem dL_law_206 : decode cL_law 206 = .ok (.iaload, 1) := dk_46 (dk_at dksL_law_5 18 rfl rfl)
theorem dL_law_207 : decode cL_law 207 = .ok (.invokevirtual 23, 3) := dk_182 0 23 (dk_at dksL_law_5 19 rfl rfl)
theorem dL_law_210 : decode cL_law 210 = .ok (.aload_n 2, 1) := dk_44 (dk_at dksL_law_5 22 rfl rfl)
theorem dL_law_211 : decode cL_law 211 = .ok (.aload_n 0, 1) := dk_42 (dk_at dksL_law_5 23 rfl rfl)
theorem dL_law_212 : decode cL_law 212 = .ok (.iload_n 3, 1) := dk_29 (dk_at dksL_law_6 0 rfl rfl)
theorem dL_law_213 : decode cL_law 213 = .ok (.iconst 1, 1) := dk_4 (dk_at dksL_law_6 1 rfl rfl)
theorem dL_law_214 : decode cL_law 214 = .ok (.iadd, 1) := dk_96 (dk_at dksL_law_6 2 rfl rfl)
theorem dL_law_215 : decode cL_law 215 = .ok (.iaload, 1) := dk_46 (dk_at dksL_law_6 3 rfl rfl)
theorem dL_law_216 : decode cL_law 216 = .ok (.aload_n 0, 1) := dk_42 (dk_at dksL_law_6 4 rfl rfl)
theorem dL_law_217 : decode cL_law 217 = .ok (.iload_n 3, 1) := dk_29 (dk_at dksL_law_6 5 rfl rfl)
theorem dL_law_218 : decode cL_law 218 = .ok (.iconst 2, 1) := dk_5 (dk_at dksL_law_6 6 rfl rfl)
theorem dL_law_219 : decode cL_law 219 = .ok (.iadd, 1) := dk_96 (dk_at dksL_law_6 7 rfl rfl)
theorem dL_law_220 : decode cL_law 220 = .ok (.iaload, 1) := dk_46 (dk_at dksL_law_6 8 rfl rfl)
theorem dL_law_221 : decode cL_law 221 = .ok (.invokevirtual 27, 3) := dk_182 0 27 (dk_at dksL_law_6 9 rfl rfl)
theorem dL_law_224 : decode cL_law 224 = .ok (.if_icmp .eq 651, 3) := dk_159 2 139 (dk_at dksL_law_6 12 rfl rfl)
theorem dL_law_227 : decode cL_law 227 = .ok (.iconst 0, 1) := dk_3 (dk_at dksL_law_6 15 rfl rfl)
theorem dL_law_228 : decode cL_law 228 = .ok (.ireturn, 1) := dk_172 (dk_at dksL_law_6 16 rfl rfl)
theorem dL_law_229 : decode cL_law 229 = .ok (.aload_n 1, 1) := dk_43 (dk_at dksL_law_6 17 rfl rfl)
theorem dL_law_230 : decode cL_law 230 = .ok (.aload_n 0, 1) := dk_42 (dk_at dksL_law_6 18 rfl rfl)
theorem dL_law_231 : decode cL_law 231 = .ok (.iload_n 3, 1) := dk_29 (dk_at dksL_law_6 19 rfl rfl)
theorem dL_law_232 : decode cL_law 232 = .ok (.iconst 1, 1) := dk_4 (dk_at dksL_law_6 20 rfl rfl)
theorem dL_law_233 : decode cL_law 233 = .ok (.iadd, 1) := dk_96 (dk_at dksL_law_6 21 rfl rfl)
theorem dL_law_234 : decode cL_law 234 = .ok (.iaload, 1) := dk_46 (dk_at dksL_law_6 22 rfl rfl)
theorem dL_law_235 : decode cL_law 235 = .ok (.aload_n 0, 1) := dk_42 (dk_at dksL_law_6 23 rfl rfl)
theorem dL_law_236 : decode cL_law 236 = .ok (.iload_n 3, 1) := dk_29 (dk_at dksL_law_7 0 rfl rfl)
theorem dL_law_237 : decode cL_law 237 = .ok (.iconst 2, 1) := dk_5 (dk_at dksL_law_7 1 rfl rfl)
theorem dL_law_238 : decode cL_law 238 = .ok (.iadd, 1) := dk_96 (dk_at dksL_law_7 2 rfl rfl)
theorem dL_law_239 : decode cL_law 239 = .ok (.iaload, 1) := dk_46 (dk_at dksL_law_7 3 rfl rfl)
theorem dL_law_240 : decode cL_law 240 = .ok (.aload_n 0, 1) := dk_42 (dk_at dksL_law_7 4 rfl rfl)
theorem dL_law_241 : decode cL_law 241 = .ok (.iload_n 3, 1) := dk_29 (dk_at dksL_law_7 5 rfl rfl)
theorem dL_law_242 : decode cL_law 242 = .ok (.iconst 3, 1) := dk_6 (dk_at dksL_law_7 6 rfl rfl)
theorem dL_law_243 : decode cL_law 243 = .ok (.iadd, 1) := dk_96 (dk_at dksL_law_7 7 rfl rfl)
theorem dL_law_244 : decode cL_law 244 = .ok (.iaload, 1) := dk_46 (dk_at dksL_law_7 8 rfl rfl)
theorem dL_law_245 : decode cL_law 245 = .ok (.aload_n 0, 1) := dk_42 (dk_at dksL_law_7 9 rfl rfl)
theorem dL_law_246 : decode cL_law 246 = .ok (.iload_n 3, 1) := dk_29 (dk_at dksL_law_7 10 rfl rfl)
theorem dL_law_247 : decode cL_law 247 = .ok (.iconst 4, 1) := dk_7 (dk_at dksL_law_7 11 rfl rfl)
theorem dL_law_248 : decode cL_law 248 = .ok (.iadd, 1) := dk_96 (dk_at dksL_law_7 12 rfl rfl)
theorem dL_law_249 : decode cL_law 249 = .ok (.iaload, 1) := dk_46 (dk_at dksL_law_7 13 rfl rfl)
theorem dL_law_250 : decode cL_law 250 = .ok (.aload_n 0, 1) := dk_42 (dk_at dksL_law_7 14 rfl rfl)
theorem dL_law_251 : decode cL_law 251 = .ok (.iload_n 3, 1) := dk_29 (dk_at dksL_law_7 15 rfl rfl)
theorem dL_law_252 : decode cL_law 252 = .ok (.iconst 5, 1) := dk_8 (dk_at dksL_law_7 16 rfl rfl)
theorem dL_law_253 : decode cL_law 253 = .ok (.iadd, 1) := dk_96 (dk_at dksL_law_7 17 rfl rfl)
theorem dL_law_254 : decode cL_law 254 = .ok (.iaload, 1) := dk_46 (dk_at dksL_law_7 18 rfl rfl)
theorem dL_law_255 : decode cL_law 255 = .ok (.invokevirtual 28, 3) := dk_182 0 28 (dk_at dksL_law_7 19 rfl rfl)
theorem dL_law_258 : decode cL_law 258 = .ok (.aload_n 2, 1) := dk_44 (dk_at dksL_law_7 22 rfl rfl)
theorem dL_law_259 : decode cL_law 259 = .ok (.aload_n 0, 1) := dk_42 (dk_at dksL_law_7 23 rfl rfl)
theorem dL_law_260 : decode cL_law 260 = .ok (.iload_n 3, 1) := dk_29 (dk_at dksL_law_8 0 rfl rfl)
theorem dL_law_261 : decode cL_law 261 = .ok (.iconst 1, 1) := dk_4 (dk_at dksL_law_8 1 rfl rfl)
theorem dL_law_262 : decode cL_law 262 = .ok (.iadd, 1) := dk_96 (dk_at dksL_law_8 2 rfl rfl)
theorem dL_law_263 : decode cL_law 263 = .ok (.iaload, 1) := dk_46 (dk_at dksL_law_8 3 rfl rfl)
theorem dL_law_264 : decode cL_law 264 = .ok (.aload_n 0, 1) := dk_42 (dk_at dksL_law_8 4 rfl rfl)
theorem dL_law_265 : decode cL_law 265 = .ok (.iload_n 3, 1) := dk_29 (dk_at dksL_law_8 5 rfl rfl)
theorem dL_law_266 : decode cL_law 266 = .ok (.iconst 2, 1) := dk_5 (dk_at dksL_law_8 6 rfl rfl)
theorem dL_law_267 : decode cL_law 267 = .ok (.iadd, 1) := dk_96 (dk_at dksL_law_8 7 rfl rfl)
theorem dL_law_268 : decode cL_law 268 = .ok (.iaload, 1) := dk_46 (dk_at dksL_law_8 8 rfl rfl)
theorem dL_law_269 : decode cL_law 269 = .ok (.aload_n 0, 1) := dk_42 (dk_at dksL_law_8 9 rfl rfl)
theorem dL_law_270 : decode cL_law 270 = .ok (.iload_n 3, 1) := dk_29 (dk_at dksL_law_8 10 rfl rfl)
theorem dL_law_271 : decode cL_law 271 = .ok (.iconst 3, 1) := dk_6 (dk_at dksL_law_8 11 rfl rfl)
theorem dL_law_272 : decode cL_law 272 = .ok (.iadd, 1) := dk_96 (dk_at dksL_law_8 12 rfl rfl)
theorem dL_law_273 : decode cL_law 273 = .ok (.iaload, 1) := dk_46 (dk_at dksL_law_8 13 rfl rfl)
theorem dL_law_274 : decode cL_law 274 = .ok (.aload_n 0, 1) := dk_42 (dk_at dksL_law_8 14 rfl rfl)
theorem dL_law_275 : decode cL_law 275 = .ok (.iload_n 3, 1) := dk_29 (dk_at dksL_law_8 15 rfl rfl)
theorem dL_law_276 : decode cL_law 276 = .ok (.iconst 4, 1) := dk_7 (dk_at dksL_law_8 16 rfl rfl)
theorem dL_law_277 : decode cL_law 277 = .ok (.iadd, 1) := dk_96 (dk_at dksL_law_8 17 rfl rfl)
theorem dL_law_278 : decode cL_law 278 = .ok (.iaload, 1) := dk_46 (dk_at dksL_law_8 18 rfl rfl)
theorem dL_law_279 : decode cL_law 279 = .ok (.aload_n 0, 1) := dk_42 (dk_at dksL_law_8 19 rfl rfl)
theorem dL_law_280 : decode cL_law 280 = .ok (.iload_n 3, 1) := dk_29 (dk_at dksL_law_8 20 rfl rfl)
theorem dL_law_281 : decode cL_law 281 = .ok (.iconst 5, 1) := dk_8 (dk_at dksL_law_8 21 rfl rfl)
theorem dL_law_282 : decode cL_law 282 = .ok (.iadd, 1) := dk_96 (dk_at dksL_law_8 22 rfl rfl)
theorem dL_law_283 : decode cL_law 283 = .ok (.iaload, 1) := dk_46 (dk_at dksL_law_8 23 rfl rfl)
theorem dL_law_284 : decode cL_law 284 = .ok (.invokevirtual 32, 3) := dk_182 0 32 (dk_at dksL_law_9 0 rfl rfl)
theorem dL_law_287 : decode cL_law 287 = .ok (.if_icmp .eq 588, 3) := dk_159 2 76 (dk_at dksL_law_9 3 rfl rfl)
theorem dL_law_290 : decode cL_law 290 = .ok (.iconst 0, 1) := dk_3 (dk_at dksL_law_9 6 rfl rfl)
theorem dL_law_291 : decode cL_law 291 = .ok (.ireturn, 1) := dk_172 (dk_at dksL_law_9 7 rfl rfl)
theorem dL_law_292 : decode cL_law 292 = .ok (.aload_n 1, 1) := dk_43 (dk_at dksL_law_9 8 rfl rfl)
theorem dL_law_293 : decode cL_law 293 = .ok (.aload_n 0, 1) := dk_42 (dk_at dksL_law_9 9 rfl rfl)
theorem dL_law_294 : decode cL_law 294 = .ok (.iload_n 3, 1) := dk_29 (dk_at dksL_law_9 10 rfl rfl)
theorem dL_law_295 : decode cL_law 295 = .ok (.iconst 1, 1) := dk_4 (dk_at dksL_law_9 11 rfl rfl)
theorem dL_law_296 : decode cL_law 296 = .ok (.iadd, 1) := dk_96 (dk_at dksL_law_9 12 rfl rfl)
theorem dL_law_297 : decode cL_law 297 = .ok (.iaload, 1) := dk_46 (dk_at dksL_law_9 13 rfl rfl)
theorem dL_law_298 : decode cL_law 298 = .ok (.invokevirtual 33, 3) := dk_182 0 33 (dk_at dksL_law_9 14 rfl rfl)
theorem dL_law_301 : decode cL_law 301 = .ok (.aload_n 2, 1) := dk_44 (dk_at dksL_law_9 17 rfl rfl)
theorem dL_law_302 : decode cL_law 302 = .ok (.aload_n 0, 1) := dk_42 (dk_at dksL_law_9 18 rfl rfl)
theorem dL_law_303 : decode cL_law 303 = .ok (.iload_n 3, 1) := dk_29 (dk_at dksL_law_9 19 rfl rfl)
theorem dL_law_304 : decode cL_law 304 = .ok (.iconst 1, 1) := dk_4 (dk_at dksL_law_9 20 rfl rfl)
theorem dL_law_305 : decode cL_law 305 = .ok (.iadd, 1) := dk_96 (dk_at dksL_law_9 21 rfl rfl)
theorem dL_law_306 : decode cL_law 306 = .ok (.iaload, 1) := dk_46 (dk_at dksL_law_9 22 rfl rfl)
theorem dL_law_307 : decode cL_law 307 = .ok (.invokevirtual 36, 3) := dk_182 0 36 (dk_at dksL_law_10 0 rfl rfl)
theorem dL_law_310 : decode cL_law 310 = .ok (.if_icmp .eq 565, 3) := dk_159 2 53 (dk_at dksL_law_10 3 rfl rfl)
theorem dL_law_313 : decode cL_law 313 = .ok (.iconst 0, 1) := dk_3 (dk_at dksL_law_10 6 rfl rfl)
theorem dL_law_314 : decode cL_law 314 = .ok (.ireturn, 1) := dk_172 (dk_at dksL_law_10 7 rfl rfl)
theorem dL_law_315 : decode cL_law 315 = .ok (.aload_n 1, 1) := dk_43 (dk_at dksL_law_10 8 rfl rfl)
theorem dL_law_316 : decode cL_law 316 = .ok (.invokevirtual 37, 3) := dk_182 0 37 (dk_at dksL_law_10 9 rfl rfl)
theorem dL_law_319 : decode cL_law 319 = .ok (.aload_n 2, 1) := dk_44 (dk_at dksL_law_10 12 rfl rfl)
theorem dL_law_320 : decode cL_law 320 = .ok (.invokevirtual 41, 3) := dk_182 0 41 (dk_at dksL_law_10 13 rfl rfl)
theorem dL_law_323 : decode cL_law 323 = .ok (.if_icmp .eq 552, 3) := dk_159 2 40 (dk_at dksL_law_10 16 rfl rfl)
theorem dL_law_326 : decode cL_law 326 = .ok (.iconst 0, 1) := dk_3 (dk_at dksL_law_10 19 rfl rfl)
theorem dL_law_327 : decode cL_law 327 = .ok (.ireturn, 1) := dk_172 (dk_at dksL_law_10 20 rfl rfl)
theorem dL_law_328 : decode cL_law 328 = .ok (.aload_n 1, 1) := dk_43 (dk_at dksL_law_10 21 rfl rfl)
theorem dL_law_329 : decode cL_law 329 = .ok (.aload_n 0, 1) := dk_42 (dk_at dksL_law_10 22 rfl rfl)
theorem dL_law_330 : decode cL_law 330 = .ok (.iload_n 3, 1) := dk_29 (dk_at dksL_law_10 23 rfl rfl)
theorem dL_law_331 : decode cL_law 331 = .ok (.iconst 1, 1) := dk_4 (dk_at dksL_law_11 0 rfl rfl)
theorem dL_law_332 : decode cL_law 332 = .ok (.iadd, 1) := dk_96 (dk_at dksL_law_11 1 rfl rfl)
theorem dL_law_333 : decode cL_law 333 = .ok (.iaload, 1) := dk_46 (dk_at dksL_law_11 2 rfl rfl)
theorem dL_law_334 : decode cL_law 334 = .ok (.invokevirtual 42, 3) := dk_182 0 42 (dk_at dksL_law_11 3 rfl rfl)
theorem dL_law_337 : decode cL_law 337 = .ok (.aload_n 2, 1) := dk_44 (dk_at dksL_law_11 6 rfl rfl)
theorem dL_law_338 : decode cL_law 338 = .ok (.aload_n 0, 1) := dk_42 (dk_at dksL_law_11 7 rfl rfl)
theorem dL_law_339 : decode cL_law 339 = .ok (.iload_n 3, 1) := dk_29 (dk_at dksL_law_11 8 rfl rfl)
theorem dL_law_340 : decode cL_law 340 = .ok (.iconst 1, 1) := dk_4 (dk_at dksL_law_11 9 rfl rfl)
theorem dL_law_341 : decode cL_law 341 = .ok (.iadd, 1) := dk_96 (dk_at dksL_law_11 10 rfl rfl)
theorem dL_law_342 : decode cL_law 342 = .ok (.iaload, 1) := dk_46 (dk_at dksL_law_11 11 rfl rfl)
theorem dL_law_343 : decode cL_law 343 = .ok (.invokevirtual 45, 3) := dk_182 0 45 (dk_at dksL_law_11 12 rfl rfl)
theorem dL_law_346 : decode cL_law 346 = .ok (.if_icmp .eq 529, 3) := dk_159 2 17 (dk_at dksL_law_11 15 rfl rfl)
theorem dL_law_349 : decode cL_law 349 = .ok (.iconst 0, 1) := dk_3 (dk_at dksL_law_11 18 rfl rfl)
theorem dL_law_350 : decode cL_law 350 = .ok (.ireturn, 1) := dk_172 (dk_at dksL_law_11 19 rfl rfl)
theorem dL_law_351 : decode cL_law 351 = .ok (.aload_n 1, 1) := dk_43 (dk_at dksL_law_11 20 rfl rfl)
theorem dL_law_352 : decode cL_law 352 = .ok (.invokevirtual 46, 3) := dk_182 0 46 (dk_at dksL_law_11 21 rfl rfl)
theorem dL_law_355 : decode cL_law 355 = .ok (.aload_n 2, 1) := dk_44 (dk_at dksL_law_12 0 rfl rfl)
theorem dL_law_356 : decode cL_law 356 = .ok (.invokevirtual 49, 3) := dk_182 0 49 (dk_at dksL_law_12 1 rfl rfl)
theorem dL_law_359 : decode cL_law 359 = .ok (.if_icmp .eq 516, 3) := dk_159 2 4 (dk_at dksL_law_12 4 rfl rfl)
theorem dL_law_362 : decode cL_law 362 = .ok (.iconst 0, 1) := dk_3 (dk_at dksL_law_12 7 rfl rfl)
theorem dL_law_363 : decode cL_law 363 = .ok (.ireturn, 1) := dk_172 (dk_at dksL_law_12 8 rfl rfl)
theorem dL_law_364 : decode cL_law 364 = .ok (.aload_n 1, 1) := dk_43 (dk_at dksL_law_12 9 rfl rfl)
theorem dL_law_365 : decode cL_law 365 = .ok (.aload_n 0, 1) := dk_42 (dk_at dksL_law_12 10 rfl rfl)
theorem dL_law_366 : decode cL_law 366 = .ok (.iload_n 3, 1) := dk_29 (dk_at dksL_law_12 11 rfl rfl)
theorem dL_law_367 : decode cL_law 367 = .ok (.iconst 1, 1) := dk_4 (dk_at dksL_law_12 12 rfl rfl)
theorem dL_law_368 : decode cL_law 368 = .ok (.iadd, 1) := dk_96 (dk_at dksL_law_12 13 rfl rfl)
theorem dL_law_369 : decode cL_law 369 = .ok (.iaload, 1) := dk_46 (dk_at dksL_law_12 14 rfl rfl)
theorem dL_law_370 : decode cL_law 370 = .ok (.aload_n 0, 1) := dk_42 (dk_at dksL_law_12 15 rfl rfl)
theorem dL_law_371 : decode cL_law 371 = .ok (.iload_n 3, 1) := dk_29 (dk_at dksL_law_12 16 rfl rfl)
theorem dL_law_372 : decode cL_law 372 = .ok (.iconst 2, 1) := dk_5 (dk_at dksL_law_12 17 rfl rfl)
theorem dL_law_373 : decode cL_law 373 = .ok (.iadd, 1) := dk_96 (dk_at dksL_law_12 18 rfl rfl)
theorem dL_law_374 : decode cL_law 374 = .ok (.iaload, 1) := dk_46 (dk_at dksL_law_12 19 rfl rfl)
theorem dL_law_375 : decode cL_law 375 = .ok (.invokevirtual 50, 3) := dk_182 0 50 (dk_at dksL_law_12 20 rfl rfl)
theorem dL_law_378 : decode cL_law 378 = .ok (.aload_n 2, 1) := dk_44 (dk_at dksL_law_12 23 rfl rfl)
theorem dL_law_379 : decode cL_law 379 = .ok (.aload_n 0, 1) := dk_42 (dk_at dksL_law_13 0 rfl rfl)
theorem dL_law_380 : decode cL_law 380 = .ok (.iload_n 3, 1) := dk_29 (dk_at dksL_law_13 1 rfl rfl)
theorem dL_law_381 : decode cL_law 381 = .ok (.iconst 1, 1) := dk_4 (dk_at dksL_law_13 2 rfl rfl)
theorem dL_law_382 : decode cL_law 382 = .ok (.iadd, 1) := dk_96 (dk_at dksL_law_13 3 rfl rfl)
theorem dL_law_383 : decode cL_law 383 = .ok (.iaload, 1) := dk_46 (dk_at dksL_law_13 4 rfl rfl)
theorem dL_law_384 : decode cL_law 384 = .ok (.aload_n 0, 1) := dk_42 (dk_at dksL_law_13 5 rfl rfl)
theorem dL_law_385 : decode cL_law 385 = .ok (.iload_n 3, 1) := dk_29 (dk_at dksL_law_13 6 rfl rfl)
theorem dL_law_386 : decode cL_law 386 = .ok (.iconst 2, 1) := dk_5 (dk_at dksL_law_13 7 rfl rfl)
theorem dL_law_387 : decode cL_law 387 = .ok (.iadd, 1) := dk_96 (dk_at dksL_law_13 8 rfl rfl)
theorem dL_law_388 : decode cL_law 388 = .ok (.iaload, 1) := dk_46 (dk_at dksL_law_13 9 rfl rfl)
theorem dL_law_389 : decode cL_law 389 = .ok (.invokevirtual 53, 3) := dk_182 0 53 (dk_at dksL_law_13 10 rfl rfl)
theorem dL_law_392 : decode cL_law 392 = .ok (.if_icmp .eq 483, 3) := dk_159 1 227 (dk_at dksL_law_13 13 rfl rfl)
theorem dL_law_395 : decode cL_law 395 = .ok (.iconst 0, 1) := dk_3 (dk_at dksL_law_13 16 rfl rfl)
theorem dL_law_396 : decode cL_law 396 = .ok (.ireturn, 1) := dk_172 (dk_at dksL_law_13 17 rfl rfl)
theorem dL_law_397 : decode cL_law 397 = .ok (.aload_n 1, 1) := dk_43 (dk_at dksL_law_13 18 rfl rfl)
theorem dL_law_398 : decode cL_law 398 = .ok (.aload_n 0, 1) := dk_42 (dk_at dksL_law_13 19 rfl rfl)
theorem dL_law_399 : decode cL_law 399 = .ok (.iload_n 3, 1) := dk_29 (dk_at dksL_law_13 20 rfl rfl)
theorem dL_law_400 : decode cL_law 400 = .ok (.iconst 1, 1) := dk_4 (dk_at dksL_law_13 21 rfl rfl)
theorem dL_law_401 : decode cL_law 401 = .ok (.iadd, 1) := dk_96 (dk_at dksL_law_13 22 rfl rfl)
theorem dL_law_402 : decode cL_law 402 = .ok (.iaload, 1) := dk_46 (dk_at dksL_law_13 23 rfl rfl)
theorem dL_law_403 : decode cL_law 403 = .ok (.aload_n 0, 1) := dk_42 (dk_at dksL_law_14 0 rfl rfl)
theorem dL_law_404 : decode cL_law 404 = .ok (.iload_n 3, 1) := dk_29 (dk_at dksL_law_14 1 rfl rfl)
theorem dL_law_405 : decode cL_law 405 = .ok (.iconst 2, 1) := dk_5 (dk_at dksL_law_14 2 rfl rfl)
theorem dL_law_406 : decode cL_law 406 = .ok (.iadd, 1) := dk_96 (dk_at dksL_law_14 3 rfl rfl)
theorem dL_law_407 : decode cL_law 407 = .ok (.iaload, 1) := dk_46 (dk_at dksL_law_14 4 rfl rfl)
theorem dL_law_408 : decode cL_law 408 = .ok (.aload_n 0, 1) := dk_42 (dk_at dksL_law_14 5 rfl rfl)
theorem dL_law_409 : decode cL_law 409 = .ok (.iload_n 3, 1) := dk_29 (dk_at dksL_law_14 6 rfl rfl)
theorem dL_law_410 : decode cL_law 410 = .ok (.iconst 3, 1) := dk_6 (dk_at dksL_law_14 7 rfl rfl)
theorem dL_law_411 : decode cL_law 411 = .ok (.iadd, 1) := dk_96 (dk_at dksL_law_14 8 rfl rfl)
theorem dL_law_412 : decode cL_law 412 = .ok (.iaload, 1) := dk_46 (dk_at dksL_law_14 9 rfl rfl)
theorem dL_law_413 : decode cL_law 413 = .ok (.invokevirtual 54, 3) := dk_182 0 54 (dk_at dksL_law_14 10 rfl rfl)
theorem dL_law_416 : decode cL_law 416 = .ok (.aload_n 2, 1) := dk_44 (dk_at dksL_law_14 13 rfl rfl)
theorem dL_law_417 : decode cL_law 417 = .ok (.aload_n 0, 1) := dk_42 (dk_at dksL_law_14 14 rfl rfl)
theorem dL_law_418 : decode cL_law 418 = .ok (.iload_n 3, 1) := dk_29 (dk_at dksL_law_14 15 rfl rfl)
theorem dL_law_419 : decode cL_law 419 = .ok (.iconst 1, 1) := dk_4 (dk_at dksL_law_14 16 rfl rfl)
theorem dL_law_420 : decode cL_law 420 = .ok (.iadd, 1) := dk_96 (dk_at dksL_law_14 17 rfl rfl)
theorem dL_law_421 : decode cL_law 421 = .ok (.iaload, 1) := dk_46 (dk_at dksL_law_14 18 rfl rfl)
theorem dL_law_422 : decode cL_law 422 = .ok (.aload_n 0, 1) := dk_42 (dk_at dksL_law_14 19 rfl rfl)
theorem dL_law_423 : decode cL_law 423 = .ok (.iload_n 3, 1) := dk_29 (dk_at dksL_law_14 20 rfl rfl)
theorem dL_law_424 : decode cL_law 424 = .ok (.iconst 2, 1) := dk_5 (dk_at dksL_law_14 21 rfl rfl)
theorem dL_law_425 : decode cL_law 425 = .ok (.iadd, 1) := dk_96 (dk_at dksL_law_14 22 rfl rfl)
theorem dL_law_426 : decode cL_law 426 = .ok (.iaload, 1) := dk_46 (dk_at dksL_law_14 23 rfl rfl)
theorem dL_law_427 : decode cL_law 427 = .ok (.aload_n 0, 1) := dk_42 (dk_at dksL_law_15 0 rfl rfl)
theorem dL_law_428 : decode cL_law 428 = .ok (.iload_n 3, 1) := dk_29 (dk_at dksL_law_15 1 rfl rfl)
theorem dL_law_429 : decode cL_law 429 = .ok (.iconst 3, 1) := dk_6 (dk_at dksL_law_15 2 rfl rfl)
theorem dL_law_430 : decode cL_law 430 = .ok (.iadd, 1) := dk_96 (dk_at dksL_law_15 3 rfl rfl)
theorem dL_law_431 : decode cL_law 431 = .ok (.iaload, 1) := dk_46 (dk_at dksL_law_15 4 rfl rfl)
theorem dL_law_432 : decode cL_law 432 = .ok (.invokevirtual 58, 3) := dk_182 0 58 (dk_at dksL_law_15 5 rfl rfl)
theorem dL_law_435 : decode cL_law 435 = .ok (.if_icmp .eq 440, 3) := dk_159 1 184 (dk_at dksL_law_15 8 rfl rfl)
theorem dL_law_438 : decode cL_law 438 = .ok (.iconst 0, 1) := dk_3 (dk_at dksL_law_15 11 rfl rfl)
theorem dL_law_439 : decode cL_law 439 = .ok (.ireturn, 1) := dk_172 (dk_at dksL_law_15 12 rfl rfl)
theorem dL_law_440 : decode cL_law 440 = .ok (.aload_n 1, 1) := dk_43 (dk_at dksL_law_15 13 rfl rfl)
theorem dL_law_441 : decode cL_law 441 = .ok (.invokevirtual 59, 3) := dk_182 0 59 (dk_at dksL_law_15 14 rfl rfl)
theorem dL_law_444 : decode cL_law 444 = .ok (.aload_n 2, 1) := dk_44 (dk_at dksL_law_15 17 rfl rfl)
theorem dL_law_445 : decode cL_law 445 = .ok (.invokevirtual 62, 3) := dk_182 0 62 (dk_at dksL_law_15 18 rfl rfl)
theorem dL_law_448 : decode cL_law 448 = .ok (.if_icmp .eq 427, 3) := dk_159 1 171 (dk_at dksL_law_15 21 rfl rfl)
theorem dL_law_451 : decode cL_law 451 = .ok (.iconst 0, 1) := dk_3 (dk_at dksL_law_16 0 rfl rfl)
theorem dL_law_452 : decode cL_law 452 = .ok (.ireturn, 1) := dk_172 (dk_at dksL_law_16 1 rfl rfl)
theorem dL_law_453 : decode cL_law 453 = .ok (.aload_n 1, 1) := dk_43 (dk_at dksL_law_16 2 rfl rfl)
theorem dL_law_454 : decode cL_law 454 = .ok (.invokevirtual 63, 3) := dk_182 0 63 (dk_at dksL_law_16 3 rfl rfl)
theorem dL_law_457 : decode cL_law 457 = .ok (.aload_n 2, 1) := dk_44 (dk_at dksL_law_16 6 rfl rfl)
theorem dL_law_458 : decode cL_law 458 = .ok (.invokevirtual 66, 3) := dk_182 0 66 (dk_at dksL_law_16 7 rfl rfl)
theorem dL_law_461 : decode cL_law 461 = .ok (.if_icmp .eq 414, 3) := dk_159 1 158 (dk_at dksL_law_16 10 rfl rfl)
theorem dL_law_464 : decode cL_law 464 = .ok (.iconst 0, 1) := dk_3 (dk_at dksL_law_16 13 rfl rfl)
theorem dL_law_465 : decode cL_law 465 = .ok (.ireturn, 1) := dk_172 (dk_at dksL_law_16 14 rfl rfl)
theorem dL_law_466 : decode cL_law 466 = .ok (.aload_n 1, 1) := dk_43 (dk_at dksL_law_16 15 rfl rfl)
theorem dL_law_467 : decode cL_law 467 = .ok (.aload_n 0, 1) := dk_42 (dk_at dksL_law_16 16 rfl rfl)
theorem dL_law_468 : decode cL_law 468 = .ok (.iload_n 3, 1) := dk_29 (dk_at dksL_law_16 17 rfl rfl)
theorem dL_law_469 : decode cL_law 469 = .ok (.iconst 1, 1) := dk_4 (dk_at dksL_law_16 18 rfl rfl)
theorem dL_law_470 : decode cL_law 470 = .ok (.iadd, 1) := dk_96 (dk_at dksL_law_16 19 rfl rfl)
theorem dL_law_471 : decode cL_law 471 = .ok (.iaload, 1) := dk_46 (dk_at dksL_law_16 20 rfl rfl)
theorem dL_law_472 : decode cL_law 472 = .ok (.aload_n 0, 1) := dk_42 (dk_at dksL_law_16 21 rfl rfl)
theorem dL_law_473 : decode cL_law 473 = .ok (.iload_n 3, 1) := dk_29 (dk_at dksL_law_16 22 rfl rfl)
theorem dL_law_474 : decode cL_law 474 = .ok (.iconst 2, 1) := dk_5 (dk_at dksL_law_16 23 rfl rfl)
theorem dL_law_475 : decode cL_law 475 = .ok (.iadd, 1) := dk_96 (dk_at dksL_law_17 0 rfl rfl)
theorem dL_law_476 : decode cL_law 476 = .ok (.iaload, 1) := dk_46 (dk_at dksL_law_17 1 rfl rfl)
theorem dL_law_477 : decode cL_law 477 = .ok (.invokevirtual 67, 3) := dk_182 0 67 (dk_at dksL_law_17 2 rfl rfl)
theorem dL_law_480 : decode cL_law 480 = .ok (.aload_n 2, 1) := dk_44 (dk_at dksL_law_17 5 rfl rfl)
theorem dL_law_481 : decode cL_law 481 = .ok (.aload_n 0, 1) := dk_42 (dk_at dksL_law_17 6 rfl rfl)
theorem dL_law_482 : decode cL_law 482 = .ok (.iload_n 3, 1) := dk_29 (dk_at dksL_law_17 7 rfl rfl)
theorem dL_law_483 : decode cL_law 483 = .ok (.iconst 1, 1) := dk_4 (dk_at dksL_law_17 8 rfl rfl)
theorem dL_law_484 : decode cL_law 484 = .ok (.iadd, 1) := dk_96 (dk_at dksL_law_17 9 rfl rfl)
theorem dL_law_485 : decode cL_law 485 = .ok (.iaload, 1) := dk_46 (dk_at dksL_law_17 10 rfl rfl)
theorem dL_law_486 : decode cL_law 486 = .ok (.aload_n 0, 1) := dk_42 (dk_at dksL_law_17 11 rfl rfl)
theorem dL_law_487 : decode cL_law 487 = .ok (.iload_n 3, 1) := dk_29 (dk_at dksL_law_17 12 rfl rfl)
theorem dL_law_488 : decode cL_law 488 = .ok (.iconst 2, 1) := dk_5 (dk_at dksL_law_17 13 rfl rfl)
theorem dL_law_489 : decode cL_law 489 = .ok (.iadd, 1) := dk_96 (dk_at dksL_law_17 14 rfl rfl)
theorem dL_law_490 : decode cL_law 490 = .ok (.iaload, 1) := dk_46 (dk_at dksL_law_17 15 rfl rfl)
theorem dL_law_491 : decode cL_law 491 = .ok (.invokevirtual 70, 3) := dk_182 0 70 (dk_at dksL_law_17 16 rfl rfl)
theorem dL_law_494 : decode cL_law 494 = .ok (.if_icmp .eq 381, 3) := dk_159 1 125 (dk_at dksL_law_17 19 rfl rfl)
theorem dL_law_497 : decode cL_law 497 = .ok (.iconst 0, 1) := dk_3 (dk_at dksL_law_17 22 rfl rfl)
theorem dL_law_498 : decode cL_law 498 = .ok (.ireturn, 1) := dk_172 (dk_at dksL_law_17 23 rfl rfl)
theorem dL_law_499 : decode cL_law 499 = .ok (.aload_n 1, 1) := dk_43 (dk_at dksL_law_18 0 rfl rfl)
theorem dL_law_500 : decode cL_law 500 = .ok (.aload_n 0, 1) := dk_42 (dk_at dksL_law_18 1 rfl rfl)
theorem dL_law_501 : decode cL_law 501 = .ok (.iload_n 3, 1) := dk_29 (dk_at dksL_law_18 2 rfl rfl)
theorem dL_law_502 : decode cL_law 502 = .ok (.iconst 1, 1) := dk_4 (dk_at dksL_law_18 3 rfl rfl)
theorem dL_law_503 : decode cL_law 503 = .ok (.iadd, 1) := dk_96 (dk_at dksL_law_18 4 rfl rfl)
theorem dL_law_504 : decode cL_law 504 = .ok (.iaload, 1) := dk_46 (dk_at dksL_law_18 5 rfl rfl)
theorem dL_law_505 : decode cL_law 505 = .ok (.aload_n 0, 1) := dk_42 (dk_at dksL_law_18 6 rfl rfl)
theorem dL_law_506 : decode cL_law 506 = .ok (.iload_n 3, 1) := dk_29 (dk_at dksL_law_18 7 rfl rfl)
theorem dL_law_507 : decode cL_law 507 = .ok (.iconst 2, 1) := dk_5 (dk_at dksL_law_18 8 rfl rfl)
theorem dL_law_508 : decode cL_law 508 = .ok (.iadd, 1) := dk_96 (dk_at dksL_law_18 9 rfl rfl)
theorem dL_law_509 : decode cL_law 509 = .ok (.iaload, 1) := dk_46 (dk_at dksL_law_18 10 rfl rfl)
theorem dL_law_510 : decode cL_law 510 = .ok (.aload_n 0, 1) := dk_42 (dk_at dksL_law_18 11 rfl rfl)
theorem dL_law_511 : decode cL_law 511 = .ok (.iload_n 3, 1) := dk_29 (dk_at dksL_law_18 12 rfl rfl)
theorem dL_law_512 : decode cL_law 512 = .ok (.iconst 3, 1) := dk_6 (dk_at dksL_law_18 13 rfl rfl)
theorem dL_law_513 : decode cL_law 513 = .ok (.iadd, 1) := dk_96 (dk_at dksL_law_18 14 rfl rfl)
theorem dL_law_514 : decode cL_law 514 = .ok (.iaload, 1) := dk_46 (dk_at dksL_law_18 15 rfl rfl)
theorem dL_law_515 : decode cL_law 515 = .ok (.aload_n 0, 1) := dk_42 (dk_at dksL_law_18 16 rfl rfl)
theorem dL_law_516 : decode cL_law 516 = .ok (.iload_n 3, 1) := dk_29 (dk_at dksL_law_18 17 rfl rfl)
theorem dL_law_517 : decode cL_law 517 = .ok (.iconst 4, 1) := dk_7 (dk_at dksL_law_18 18 rfl rfl)
theorem dL_law_518 : decode cL_law 518 = .ok (.iadd, 1) := dk_96 (dk_at dksL_law_18 19 rfl rfl)
theorem dL_law_519 : decode cL_law 519 = .ok (.iaload, 1) := dk_46 (dk_at dksL_law_18 20 rfl rfl)
theorem dL_law_520 : decode cL_law 520 = .ok (.aload_n 0, 1) := dk_42 (dk_at dksL_law_18 21 rfl rfl)
theorem dL_law_521 : decode cL_law 521 = .ok (.iload_n 3, 1) := dk_29 (dk_at dksL_law_18 22 rfl rfl)
theorem dL_law_522 : decode cL_law 522 = .ok (.iconst 5, 1) := dk_8 (dk_at dksL_law_18 23 rfl rfl)
theorem dL_law_523 : decode cL_law 523 = .ok (.iadd, 1) := dk_96 (dk_at dksL_law_19 0 rfl rfl)
theorem dL_law_524 : decode cL_law 524 = .ok (.iaload, 1) := dk_46 (dk_at dksL_law_19 1 rfl rfl)
theorem dL_law_525 : decode cL_law 525 = .ok (.ifCond .eq 7, 3) := dk_153 0 7 (dk_at dksL_law_19 2 rfl rfl)
theorem dL_law_528 : decode cL_law 528 = .ok (.iconst 1, 1) := dk_4 (dk_at dksL_law_19 5 rfl rfl)
theorem dL_law_529 : decode cL_law 529 = .ok (.goto 4, 3) := dk_167 0 4 (dk_at dksL_law_19 6 rfl rfl)
theorem dL_law_532 : decode cL_law 532 = .ok (.iconst 0, 1) := dk_3 (dk_at dksL_law_19 9 rfl rfl)
theorem dL_law_533 : decode cL_law 533 = .ok (.invokevirtual 71, 3) := dk_182 0 71 (dk_at dksL_law_19 10 rfl rfl)
theorem dL_law_536 : decode cL_law 536 = .ok (.aload_n 2, 1) := dk_44 (dk_at dksL_law_19 13 rfl rfl)
theorem dL_law_537 : decode cL_law 537 = .ok (.aload_n 0, 1) := dk_42 (dk_at dksL_law_19 14 rfl rfl)
theorem dL_law_538 : decode cL_law 538 = .ok (.iload_n 3, 1) := dk_29 (dk_at dksL_law_19 15 rfl rfl)
theorem dL_law_539 : decode cL_law 539 = .ok (.iconst 1, 1) := dk_4 (dk_at dksL_law_19 16 rfl rfl)
theorem dL_law_540 : decode cL_law 540 = .ok (.iadd, 1) := dk_96 (dk_at dksL_law_19 17 rfl rfl)
theorem dL_law_541 : decode cL_law 541 = .ok (.iaload, 1) := dk_46 (dk_at dksL_law_19 18 rfl rfl)
theorem dL_law_542 : decode cL_law 542 = .ok (.aload_n 0, 1) := dk_42 (dk_at dksL_law_19 19 rfl rfl)
theorem dL_law_543 : decode cL_law 543 = .ok (.iload_n 3, 1) := dk_29 (dk_at dksL_law_19 20 rfl rfl)
theorem dL_law_544 : decode cL_law 544 = .ok (.iconst 2, 1) := dk_5 (dk_at dksL_law_19 21 rfl rfl)
theorem dL_law_545 : decode cL_law 545 = .ok (.iadd, 1) := dk_96 (dk_at dksL_law_19 22 rfl rfl)
theorem dL_law_546 : decode cL_law 546 = .ok (.iaload, 1) := dk_46 (dk_at dksL_law_19 23 rfl rfl)
theorem dL_law_547 : decode cL_law 547 = .ok (.aload_n 0, 1) := dk_42 (dk_at dksL_law_20 0 rfl rfl)
theorem dL_law_548 : decode cL_law 548 = .ok (.iload_n 3, 1) := dk_29 (dk_at dksL_law_20 1 rfl rfl)
theorem dL_law_549 : decode cL_law 549 = .ok (.iconst 3, 1) := dk_6 (dk_at dksL_law_20 2 rfl rfl)
theorem dL_law_550 : decode cL_law 550 = .ok (.iadd, 1) := dk_96 (dk_at dksL_law_20 3 rfl rfl)
theorem dL_law_551 : decode cL_law 551 = .ok (.iaload, 1) := dk_46 (dk_at dksL_law_20 4 rfl rfl)
theorem dL_law_552 : decode cL_law 552 = .ok (.aload_n 0, 1) := dk_42 (dk_at dksL_law_20 5 rfl rfl)
theorem dL_law_553 : decode cL_law 553 = .ok (.iload_n 3, 1) := dk_29 (dk_at dksL_law_20 6 rfl rfl)
theorem dL_law_554 : decode cL_law 554 = .ok (.iconst 4, 1) := dk_7 (dk_at dksL_law_20 7 rfl rfl)
theorem dL_law_555 : decode cL_law 555 = .ok (.iadd, 1) := dk_96 (dk_at dksL_law_20 8 rfl rfl)
theorem dL_law_556 : decode cL_law 556 = .ok (.iaload, 1) := dk_46 (dk_at dksL_law_20 9 rfl rfl)
theorem dL_law_557 : decode cL_law 557 = .ok (.aload_n 0, 1) := dk_42 (dk_at dksL_law_20 10 rfl rfl)
theorem dL_law_558 : decode cL_law 558 = .ok (.iload_n 3, 1) := dk_29 (dk_at dksL_law_20 11 rfl rfl)
theorem dL_law_559 : decode cL_law 559 = .ok (.iconst 5, 1) := dk_8 (dk_at dksL_law_20 12 rfl rfl)
theorem dL_law_560 : decode cL_law 560 = .ok (.iadd, 1) := dk_96 (dk_at dksL_law_20 13 rfl rfl)
theorem dL_law_561 : decode cL_law 561 = .ok (.iaload, 1) := dk_46 (dk_at dksL_law_20 14 rfl rfl)
theorem dL_law_562 : decode cL_law 562 = .ok (.ifCond .eq 7, 3) := dk_153 0 7 (dk_at dksL_law_20 15 rfl rfl)
theorem dL_law_565 : decode cL_law 565 = .ok (.iconst 1, 1) := dk_4 (dk_at dksL_law_20 18 rfl rfl)
theorem dL_law_566 : decode cL_law 566 = .ok (.goto 4, 3) := dk_167 0 4 (dk_at dksL_law_20 19 rfl rfl)
theorem dL_law_569 : decode cL_law 569 = .ok (.iconst 0, 1) := dk_3 (dk_at dksL_law_20 22 rfl rfl)
theorem dL_law_570 : decode cL_law 570 = .ok (.invokevirtual 75, 3) := dk_182 0 75 (dk_at dksL_law_21 0 rfl rfl)
theorem dL_law_573 : decode cL_law 573 = .ok (.if_icmp .eq 302, 3) := dk_159 1 46 (dk_at dksL_law_21 3 rfl rfl)
theorem dL_law_576 : decode cL_law 576 = .ok (.iconst 0, 1) := dk_3 (dk_at dksL_law_21 6 rfl rfl)
theorem dL_law_577 : decode cL_law 577 = .ok (.ireturn, 1) := dk_172 (dk_at dksL_law_21 7 rfl rfl)
theorem dL_law_578 : decode cL_law 578 = .ok (.aload_n 1, 1) := dk_43 (dk_at dksL_law_21 8 rfl rfl)
theorem dL_law_579 : decode cL_law 579 = .ok (.aload_n 0, 1) := dk_42 (dk_at dksL_law_21 9 rfl rfl)
theorem dL_law_580 : decode cL_law 580 = .ok (.iload_n 3, 1) := dk_29 (dk_at dksL_law_21 10 rfl rfl)
theorem dL_law_581 : decode cL_law 581 = .ok (.iconst 1, 1) := dk_4 (dk_at dksL_law_21 11 rfl rfl)
theorem dL_law_582 : decode cL_law 582 = .ok (.iadd, 1) := dk_96 (dk_at dksL_law_21 12 rfl rfl)
theorem dL_law_583 : decode cL_law 583 = .ok (.iaload, 1) := dk_46 (dk_at dksL_law_21 13 rfl rfl)
theorem dL_law_584 : decode cL_law 584 = .ok (.aload_n 0, 1) := dk_42 (dk_at dksL_law_21 14 rfl rfl)
theorem dL_law_585 : decode cL_law 585 = .ok (.iload_n 3, 1) := dk_29 (dk_at dksL_law_21 15 rfl rfl)
theorem dL_law_586 : decode cL_law 586 = .ok (.iconst 2, 1) := dk_5 (dk_at dksL_law_21 16 rfl rfl)
theorem dL_law_587 : decode cL_law 587 = .ok (.iadd, 1) := dk_96 (dk_at dksL_law_21 17 rfl rfl)
theorem dL_law_588 : decode cL_law 588 = .ok (.iaload, 1) := dk_46 (dk_at dksL_law_21 18 rfl rfl)
theorem dL_law_589 : decode cL_law 589 = .ok (.aload_n 0, 1) := dk_42 (dk_at dksL_law_21 19 rfl rfl)
theorem dL_law_590 : decode cL_law 590 = .ok (.iload_n 3, 1) := dk_29 (dk_at dksL_law_21 20 rfl rfl)
theorem dL_law_591 : decode cL_law 591 = .ok (.iconst 3, 1) := dk_6 (dk_at dksL_law_21 21 rfl rfl)
theorem dL_law_592 : decode cL_law 592 = .ok (.iadd, 1) := dk_96 (dk_at dksL_law_21 22 rfl rfl)
theorem dL_law_593 : decode cL_law 593 = .ok (.iaload, 1) := dk_46 (dk_at dksL_law_21 23 rfl rfl)
theorem dL_law_594 : decode cL_law 594 = .ok (.invokevirtual 76, 3) := dk_182 0 76 (dk_at dksL_law_22 0 rfl rfl)
theorem dL_law_597 : decode cL_law 597 = .ok (.aload_n 2, 1) := dk_44 (dk_at dksL_law_22 3 rfl rfl)
theorem dL_law_598 : decode cL_law 598 = .ok (.aload_n 0, 1) := dk_42 (dk_at dksL_law_22 4 rfl rfl)
theorem dL_law_599 : decode cL_law 599 = .ok (.iload_n 3, 1) := dk_29 (dk_at dksL_law_22 5 rfl rfl)
theorem dL_law_600 : decode cL_law 600 = .ok (.iconst 1, 1) := dk_4 (dk_at dksL_law_22 6 rfl rfl)
theorem dL_law_601 : decode cL_law 601 = .ok (.iadd, 1) := dk_96 (dk_at dksL_law_22 7 rfl rfl)
theorem dL_law_602 : decode cL_law 602 = .ok (.iaload, 1) := dk_46 (dk_at dksL_law_22 8 rfl rfl)
theorem dL_law_603 : decode cL_law 603 = .ok (.aload_n 0, 1) := dk_42 (dk_at dksL_law_22 9 rfl rfl)
theorem dL_law_604 : decode cL_law 604 = .ok (.iload_n 3, 1) := dk_29 (dk_at dksL_law_22 10 rfl rfl)
theorem dL_law_605 : decode cL_law 605 = .ok (.iconst 2, 1) := dk_5 (dk_at dksL_law_22 11 rfl rfl)
theorem dL_law_606 : decode cL_law 606 = .ok (.iadd, 1) := dk_96 (dk_at dksL_law_22 12 rfl rfl)
theorem dL_law_607 : decode cL_law 607 = .ok (.iaload, 1) := dk_46 (dk_at dksL_law_22 13 rfl rfl)
theorem dL_law_608 : decode cL_law 608 = .ok (.aload_n 0, 1) := dk_42 (dk_at dksL_law_22 14 rfl rfl)
theorem dL_law_609 : decode cL_law 609 = .ok (.iload_n 3, 1) := dk_29 (dk_at dksL_law_22 15 rfl rfl)
theorem dL_law_610 : decode cL_law 610 = .ok (.iconst 3, 1) := dk_6 (dk_at dksL_law_22 16 rfl rfl)
theorem dL_law_611 : decode cL_law 611 = .ok (.iadd, 1) := dk_96 (dk_at dksL_law_22 17 rfl rfl)
theorem dL_law_612 : decode cL_law 612 = .ok (.iaload, 1) := dk_46 (dk_at dksL_law_22 18 rfl rfl)
theorem dL_law_613 : decode cL_law 613 = .ok (.invokevirtual 79, 3) := dk_182 0 79 (dk_at dksL_law_22 19 rfl rfl)
theorem dL_law_616 : decode cL_law 616 = .ok (.if_icmp .eq 259, 3) := dk_159 1 3 (dk_at dksL_law_23 0 rfl rfl)
theorem dL_law_619 : decode cL_law 619 = .ok (.iconst 0, 1) := dk_3 (dk_at dksL_law_23 3 rfl rfl)
theorem dL_law_620 : decode cL_law 620 = .ok (.ireturn, 1) := dk_172 (dk_at dksL_law_23 4 rfl rfl)
theorem dL_law_621 : decode cL_law 621 = .ok (.aload_n 1, 1) := dk_43 (dk_at dksL_law_23 5 rfl rfl)
theorem dL_law_622 : decode cL_law 622 = .ok (.aload_n 0, 1) := dk_42 (dk_at dksL_law_23 6 rfl rfl)
theorem dL_law_623 : decode cL_law 623 = .ok (.iload_n 3, 1) := dk_29 (dk_at dksL_law_23 7 rfl rfl)
theorem dL_law_624 : decode cL_law 624 = .ok (.iconst 1, 1) := dk_4 (dk_at dksL_law_23 8 rfl rfl)
theorem dL_law_625 : decode cL_law 625 = .ok (.iadd, 1) := dk_96 (dk_at dksL_law_23 9 rfl rfl)
theorem dL_law_626 : decode cL_law 626 = .ok (.iaload, 1) := dk_46 (dk_at dksL_law_23 10 rfl rfl)
theorem dL_law_627 : decode cL_law 627 = .ok (.aload_n 0, 1) := dk_42 (dk_at dksL_law_23 11 rfl rfl)
theorem dL_law_628 : decode cL_law 628 = .ok (.iload_n 3, 1) := dk_29 (dk_at dksL_law_23 12 rfl rfl)
theorem dL_law_629 : decode cL_law 629 = .ok (.iconst 2, 1) := dk_5 (dk_at dksL_law_23 13 rfl rfl)
theorem dL_law_630 : decode cL_law 630 = .ok (.iadd, 1) := dk_96 (dk_at dksL_law_23 14 rfl rfl)
theorem dL_law_631 : decode cL_law 631 = .ok (.iaload, 1) := dk_46 (dk_at dksL_law_23 15 rfl rfl)
theorem dL_law_632 : decode cL_law 632 = .ok (.invokevirtual 80, 3) := dk_182 0 80 (dk_at dksL_law_23 16 rfl rfl)
theorem dL_law_635 : decode cL_law 635 = .ok (.aload_n 2, 1) := dk_44 (dk_at dksL_law_23 19 rfl rfl)
theorem dL_law_636 : decode cL_law 636 = .ok (.aload_n 0, 1) := dk_42 (dk_at dksL_law_23 20 rfl rfl)
theorem dL_law_637 : decode cL_law 637 = .ok (.iload_n 3, 1) := dk_29 (dk_at dksL_law_23 21 rfl rfl)
theorem dL_law_638 : decode cL_law 638 = .ok (.iconst 1, 1) := dk_4 (dk_at dksL_law_23 22 rfl rfl)
theorem dL_law_639 : decode cL_law 639 = .ok (.iadd, 1) := dk_96 (dk_at dksL_law_23 23 rfl rfl)
theorem dL_law_640 : decode cL_law 640 = .ok (.iaload, 1) := dk_46 (dk_at dksL_law_24 0 rfl rfl)
theorem dL_law_641 : decode cL_law 641 = .ok (.aload_n 0, 1) := dk_42 (dk_at dksL_law_24 1 rfl rfl)
theorem dL_law_642 : decode cL_law 642 = .ok (.iload_n 3, 1) := dk_29 (dk_at dksL_law_24 2 rfl rfl)
theorem dL_law_643 : decode cL_law 643 = .ok (.iconst 2, 1) := dk_5 (dk_at dksL_law_24 3 rfl rfl)
theorem dL_law_644 : decode cL_law 644 = .ok (.iadd, 1) := dk_96 (dk_at dksL_law_24 4 rfl rfl)
theorem dL_law_645 : decode cL_law 645 = .ok (.iaload, 1) := dk_46 (dk_at dksL_law_24 5 rfl rfl)
theorem dL_law_646 : decode cL_law 646 = .ok (.invokevirtual 83, 3) := dk_182 0 83 (dk_at dksL_law_24 6 rfl rfl)
theorem dL_law_649 : decode cL_law 649 = .ok (.if_icmp .eq 226, 3) := dk_159 0 226 (dk_at dksL_law_24 9 rfl rfl)
theorem dL_law_652 : decode cL_law 652 = .ok (.iconst 0, 1) := dk_3 (dk_at dksL_law_24 12 rfl rfl)
theorem dL_law_653 : decode cL_law 653 = .ok (.ireturn, 1) := dk_172 (dk_at dksL_law_24 13 rfl rfl)
theorem dL_law_654 : decode cL_law 654 = .ok (.aload_n 1, 1) := dk_43 (dk_at dksL_law_24 14 rfl rfl)
theorem dL_law_655 : decode cL_law 655 = .ok (.aload_n 0, 1) := dk_42 (dk_at dksL_law_24 15 rfl rfl)
theorem dL_law_656 : decode cL_law 656 = .ok (.iload_n 3, 1) := dk_29 (dk_at dksL_law_24 16 rfl rfl)
theorem dL_law_657 : decode cL_law 657 = .ok (.iconst 1, 1) := dk_4 (dk_at dksL_law_24 17 rfl rfl)
theorem dL_law_658 : decode cL_law 658 = .ok (.iadd, 1) := dk_96 (dk_at dksL_law_24 18 rfl rfl)
theorem dL_law_659 : decode cL_law 659 = .ok (.iaload, 1) := dk_46 (dk_at dksL_law_24 19 rfl rfl)
theorem dL_law_660 : decode cL_law 660 = .ok (.aload_n 0, 1) := dk_42 (dk_at dksL_law_24 20 rfl rfl)
theorem dL_law_661 : decode cL_law 661 = .ok (.iload_n 3, 1) := dk_29 (dk_at dksL_law_24 21 rfl rfl)
theorem dL_law_662 : decode cL_law 662 = .ok (.iconst 2, 1) := dk_5 (dk_at dksL_law_24 22 rfl rfl)
theorem dL_law_663 : decode cL_law 663 = .ok (.iadd, 1) := dk_96 (dk_at dksL_law_24 23 rfl rfl)
theorem dL_law_664 : decode cL_law 664 = .ok (.iaload, 1) := dk_46 (dk_at dksL_law_25 0 rfl rfl)
theorem dL_law_665 : decode cL_law 665 = .ok (.aload_n 0, 1) := dk_42 (dk_at dksL_law_25 1 rfl rfl)
theorem dL_law_666 : decode cL_law 666 = .ok (.iload_n 3, 1) := dk_29 (dk_at dksL_law_25 2 rfl rfl)
theorem dL_law_667 : decode cL_law 667 = .ok (.iconst 3, 1) := dk_6 (dk_at dksL_law_25 3 rfl rfl)
theorem dL_law_668 : decode cL_law 668 = .ok (.iadd, 1) := dk_96 (dk_at dksL_law_25 4 rfl rfl)
theorem dL_law_669 : decode cL_law 669 = .ok (.iaload, 1) := dk_46 (dk_at dksL_law_25 5 rfl rfl)
theorem dL_law_670 : decode cL_law 670 = .ok (.invokevirtual 84, 3) := dk_182 0 84 (dk_at dksL_law_25 6 rfl rfl)
theorem dL_law_673 : decode cL_law 673 = .ok (.aload_n 2, 1) := dk_44 (dk_at dksL_law_25 9 rfl rfl)
theorem dL_law_674 : decode cL_law 674 = .ok (.aload_n 0, 1) := dk_42 (dk_at dksL_law_25 10 rfl rfl)
theorem dL_law_675 : decode cL_law 675 = .ok (.iload_n 3, 1) := dk_29 (dk_at dksL_law_25 11 rfl rfl)
theorem dL_law_676 : decode cL_law 676 = .ok (.iconst 1, 1) := dk_4 (dk_at dksL_law_25 12 rfl rfl)
theorem dL_law_677 : decode cL_law 677 = .ok (.iadd, 1) := dk_96 (dk_at dksL_law_25 13 rfl rfl)
theorem dL_law_678 : decode cL_law 678 = .ok (.iaload, 1) := dk_46 (dk_at dksL_law_25 14 rfl rfl)
theorem dL_law_679 : decode cL_law 679 = .ok (.aload_n 0, 1) := dk_42 (dk_at dksL_law_25 15 rfl rfl)
theorem dL_law_680 : decode cL_law 680 = .ok (.iload_n 3, 1) := dk_29 (dk_at dksL_law_25 16 rfl rfl)
theorem dL_law_681 : decode cL_law 681 = .ok (.iconst 2, 1) := dk_5 (dk_at dksL_law_25 17 rfl rfl)
theorem dL_law_682 : decode cL_law 682 = .ok (.iadd, 1) := dk_96 (dk_at dksL_law_25 18 rfl rfl)
theorem dL_law_683 : decode cL_law 683 = .ok (.iaload, 1) := dk_46 (dk_at dksL_law_25 19 rfl rfl)
theorem dL_law_684 : decode cL_law 684 = .ok (.aload_n 0, 1) := dk_42 (dk_at dksL_law_25 20 rfl rfl)
theorem dL_law_685 : decode cL_law 685 = .ok (.iload_n 3, 1) := dk_29 (dk_at dksL_law_25 21 rfl rfl)
theorem dL_law_686 : decode cL_law 686 = .ok (.iconst 3, 1) := dk_6 (dk_at dksL_law_25 22 rfl rfl)
theorem dL_law_687 : decode cL_law 687 = .ok (.iadd, 1) := dk_96 (dk_at dksL_law_25 23 rfl rfl)
theorem dL_law_688 : decode cL_law 688 = .ok (.iaload, 1) := dk_46 (dk_at dksL_law_26 0 rfl rfl)
theorem dL_law_689 : decode cL_law 689 = .ok (.invokevirtual 87, 3) := dk_182 0 87 (dk_at dksL_law_26 1 rfl rfl)
theorem dL_law_692 : decode cL_law 692 = .ok (.if_icmp .eq 183, 3) := dk_159 0 183 (dk_at dksL_law_26 4 rfl rfl)
theorem dL_law_695 : decode cL_law 695 = .ok (.iconst 0, 1) := dk_3 (dk_at dksL_law_26 7 rfl rfl)
theorem dL_law_696 : decode cL_law 696 = .ok (.ireturn, 1) := dk_172 (dk_at dksL_law_26 8 rfl rfl)
theorem dL_law_697 : decode cL_law 697 = .ok (.aload_n 1, 1) := dk_43 (dk_at dksL_law_26 9 rfl rfl)
theorem dL_law_698 : decode cL_law 698 = .ok (.aload_n 0, 1) := dk_42 (dk_at dksL_law_26 10 rfl rfl)
theorem dL_law_699 : decode cL_law 699 = .ok (.iload_n 3, 1) := dk_29 (dk_at dksL_law_26 11 rfl rfl)
theorem dL_law_700 : decode cL_law 700 = .ok (.iconst 1, 1) := dk_4 (dk_at dksL_law_26 12 rfl rfl)
theorem dL_law_701 : decode cL_law 701 = .ok (.iadd, 1) := dk_96 (dk_at dksL_law_26 13 rfl rfl)
theorem dL_law_702 : decode cL_law 702 = .ok (.iaload, 1) := dk_46 (dk_at dksL_law_26 14 rfl rfl)
theorem dL_law_703 : decode cL_law 703 = .ok (.aload_n 0, 1) := dk_42 (dk_at dksL_law_26 15 rfl rfl)
theorem dL_law_704 : decode cL_law 704 = .ok (.iload_n 3, 1) := dk_29 (dk_at dksL_law_26 16 rfl rfl)
theorem dL_law_705 : decode cL_law 705 = .ok (.iconst 2, 1) := dk_5 (dk_at dksL_law_26 17 rfl rfl)
theorem dL_law_706 : decode cL_law 706 = .ok (.iadd, 1) := dk_96 (dk_at dksL_law_26 18 rfl rfl)
theorem dL_law_707 : decode cL_law 707 = .ok (.iaload, 1) := dk_46 (dk_at dksL_law_26 19 rfl rfl)
theorem dL_law_708 : decode cL_law 708 = .ok (.aload_n 0, 1) := dk_42 (dk_at dksL_law_26 20 rfl rfl)
theorem dL_law_709 : decode cL_law 709 = .ok (.iload_n 3, 1) := dk_29 (dk_at dksL_law_26 21 rfl rfl)
theorem dL_law_710 : decode cL_law 710 = .ok (.iconst 3, 1) := dk_6 (dk_at dksL_law_26 22 rfl rfl)
theorem dL_law_711 : decode cL_law 711 = .ok (.iadd, 1) := dk_96 (dk_at dksL_law_26 23 rfl rfl)
theorem dL_law_712 : decode cL_law 712 = .ok (.iaload, 1) := dk_46 (dk_at dksL_law_27 0 rfl rfl)
theorem dL_law_713 : decode cL_law 713 = .ok (.aload_n 0, 1) := dk_42 (dk_at dksL_law_27 1 rfl rfl)
theorem dL_law_714 : decode cL_law 714 = .ok (.iload_n 3, 1) := dk_29 (dk_at dksL_law_27 2 rfl rfl)
theorem dL_law_715 : decode cL_law 715 = .ok (.iconst 4, 1) := dk_7 (dk_at dksL_law_27 3 rfl rfl)
theorem dL_law_716 : decode cL_law 716 = .ok (.iadd, 1) := dk_96 (dk_at dksL_law_27 4 rfl rfl)
theorem dL_law_717 : decode cL_law 717 = .ok (.iaload, 1) := dk_46 (dk_at dksL_law_27 5 rfl rfl)
theorem dL_law_718 : decode cL_law 718 = .ok (.invokevirtual 88, 3) := dk_182 0 88 (dk_at dksL_law_27 6 rfl rfl)
theorem dL_law_721 : decode cL_law 721 = .ok (.aload_n 2, 1) := dk_44 (dk_at dksL_law_27 9 rfl rfl)
theorem dL_law_722 : decode cL_law 722 = .ok (.aload_n 0, 1) := dk_42 (dk_at dksL_law_27 10 rfl rfl)
theorem dL_law_723 : decode cL_law 723 = .ok (.iload_n 3, 1) := dk_29 (dk_at dksL_law_27 11 rfl rfl)
theorem dL_law_724 : decode cL_law 724 = .ok (.iconst 1, 1) := dk_4 (dk_at dksL_law_27 12 rfl rfl)
theorem dL_law_725 : decode cL_law 725 = .ok (.iadd, 1) := dk_96 (dk_at dksL_law_27 13 rfl rfl)
theorem dL_law_726 : decode cL_law 726 = .ok (.iaload, 1) := dk_46 (dk_at dksL_law_27 14 rfl rfl)
theorem dL_law_727 : decode cL_law 727 = .ok (.aload_n 0, 1) := dk_42 (dk_at dksL_law_27 15 rfl rfl)
theorem dL_law_728 : decode cL_law 728 = .ok (.iload_n 3, 1) := dk_29 (dk_at dksL_law_27 16 rfl rfl)
theorem dL_law_729 : decode cL_law 729 = .ok (.iconst 2, 1) := dk_5 (dk_at dksL_law_27 17 rfl rfl)
theorem dL_law_730 : decode cL_law 730 = .ok (.iadd, 1) := dk_96 (dk_at dksL_law_27 18 rfl rfl)
theorem dL_law_731 : decode cL_law 731 = .ok (.iaload, 1) := dk_46 (dk_at dksL_law_27 19 rfl rfl)
theorem dL_law_732 : decode cL_law 732 = .ok (.aload_n 0, 1) := dk_42 (dk_at dksL_law_27 20 rfl rfl)
theorem dL_law_733 : decode cL_law 733 = .ok (.iload_n 3, 1) := dk_29 (dk_at dksL_law_27 21 rfl rfl)
theorem dL_law_734 : decode cL_law 734 = .ok (.iconst 3, 1) := dk_6 (dk_at dksL_law_27 22 rfl rfl)
theorem dL_law_735 : decode cL_law 735 = .ok (.iadd, 1) := dk_96 (dk_at dksL_law_27 23 rfl rfl)
theorem dL_law_736 : decode cL_law 736 = .ok (.iaload, 1) := dk_46 (dk_at dksL_law_28 0 rfl rfl)
theorem dL_law_737 : decode cL_law 737 = .ok (.aload_n 0, 1) := dk_42 (dk_at dksL_law_28 1 rfl rfl)
theorem dL_law_738 : decode cL_law 738 = .ok (.iload_n 3, 1) := dk_29 (dk_at dksL_law_28 2 rfl rfl)
theorem dL_law_739 : decode cL_law 739 = .ok (.iconst 4, 1) := dk_7 (dk_at dksL_law_28 3 rfl rfl)
theorem dL_law_740 : decode cL_law 740 = .ok (.iadd, 1) := dk_96 (dk_at dksL_law_28 4 rfl rfl)
theorem dL_law_741 : decode cL_law 741 = .ok (.iaload, 1) := dk_46 (dk_at dksL_law_28 5 rfl rfl)
theorem dL_law_742 : decode cL_law 742 = .ok (.invokevirtual 92, 3) := dk_182 0 92 (dk_at dksL_law_28 6 rfl rfl)
theorem dL_law_745 : decode cL_law 745 = .ok (.if_icmp .eq 130, 3) := dk_159 0 130 (dk_at dksL_law_28 9 rfl rfl)
theorem dL_law_748 : decode cL_law 748 = .ok (.iconst 0, 1) := dk_3 (dk_at dksL_law_28 12 rfl rfl)
theorem dL_law_749 : decode cL_law 749 = .ok (.ireturn, 1) := dk_172 (dk_at dksL_law_28 13 rfl rfl)
theorem dL_law_750 : decode cL_law 750 = .ok (.aload_n 1, 1) := dk_43 (dk_at dksL_law_28 14 rfl rfl)
theorem dL_law_751 : decode cL_law 751 = .ok (.aload_n 0, 1) := dk_42 (dk_at dksL_law_28 15 rfl rfl)
theorem dL_law_752 : decode cL_law 752 = .ok (.iload_n 3, 1) := dk_29 (dk_at dksL_law_28 16 rfl rfl)
theorem dL_law_753 : decode cL_law 753 = .ok (.iconst 1, 1) := dk_4 (dk_at dksL_law_28 17 rfl rfl)
theorem dL_law_754 : decode cL_law 754 = .ok (.iadd, 1) := dk_96 (dk_at dksL_law_28 18 rfl rfl)
theorem dL_law_755 : decode cL_law 755 = .ok (.iaload, 1) := dk_46 (dk_at dksL_law_28 19 rfl rfl)
theorem dL_law_756 : decode cL_law 756 = .ok (.aload_n 0, 1) := dk_42 (dk_at dksL_law_28 20 rfl rfl)
theorem dL_law_757 : decode cL_law 757 = .ok (.iload_n 3, 1) := dk_29 (dk_at dksL_law_28 21 rfl rfl)
theorem dL_law_758 : decode cL_law 758 = .ok (.iconst 2, 1) := dk_5 (dk_at dksL_law_28 22 rfl rfl)
theorem dL_law_759 : decode cL_law 759 = .ok (.iadd, 1) := dk_96 (dk_at dksL_law_28 23 rfl rfl)
theorem dL_law_760 : decode cL_law 760 = .ok (.iaload, 1) := dk_46 (dk_at dksL_law_29 0 rfl rfl)
theorem dL_law_761 : decode cL_law 761 = .ok (.invokevirtual 93, 3) := dk_182 0 93 (dk_at dksL_law_29 1 rfl rfl)
theorem dL_law_764 : decode cL_law 764 = .ok (.aload_n 2, 1) := dk_44 (dk_at dksL_law_29 4 rfl rfl)
theorem dL_law_765 : decode cL_law 765 = .ok (.aload_n 0, 1) := dk_42 (dk_at dksL_law_29 5 rfl rfl)
theorem dL_law_766 : decode cL_law 766 = .ok (.iload_n 3, 1) := dk_29 (dk_at dksL_law_29 6 rfl rfl)
theorem dL_law_767 : decode cL_law 767 = .ok (.iconst 1, 1) := dk_4 (dk_at dksL_law_29 7 rfl rfl)
theorem dL_law_768 : decode cL_law 768 = .ok (.iadd, 1) := dk_96 (dk_at dksL_law_29 8 rfl rfl)
theorem dL_law_769 : decode cL_law 769 = .ok (.iaload, 1) := dk_46 (dk_at dksL_law_29 9 rfl rfl)
theorem dL_law_770 : decode cL_law 770 = .ok (.aload_n 0, 1) := dk_42 (dk_at dksL_law_29 10 rfl rfl)
theorem dL_law_771 : decode cL_law 771 = .ok (.iload_n 3, 1) := dk_29 (dk_at dksL_law_29 11 rfl rfl)
theorem dL_law_772 : decode cL_law 772 = .ok (.iconst 2, 1) := dk_5 (dk_at dksL_law_29 12 rfl rfl)
theorem dL_law_773 : decode cL_law 773 = .ok (.iadd, 1) := dk_96 (dk_at dksL_law_29 13 rfl rfl)
theorem dL_law_774 : decode cL_law 774 = .ok (.iaload, 1) := dk_46 (dk_at dksL_law_29 14 rfl rfl)
theorem dL_law_775 : decode cL_law 775 = .ok (.invokevirtual 96, 3) := dk_182 0 96 (dk_at dksL_law_29 15 rfl rfl)
theorem dL_law_778 : decode cL_law 778 = .ok (.if_icmp .eq 97, 3) := dk_159 0 97 (dk_at dksL_law_29 18 rfl rfl)
theorem dL_law_781 : decode cL_law 781 = .ok (.iconst 0, 1) := dk_3 (dk_at dksL_law_29 21 rfl rfl)
theorem dL_law_782 : decode cL_law 782 = .ok (.ireturn, 1) := dk_172 (dk_at dksL_law_29 22 rfl rfl)
theorem dL_law_783 : decode cL_law 783 = .ok (.aload_n 1, 1) := dk_43 (dk_at dksL_law_29 23 rfl rfl)
theorem dL_law_784 : decode cL_law 784 = .ok (.invokevirtual 97, 3) := dk_182 0 97 (dk_at dksL_law_30 0 rfl rfl)
theorem dL_law_787 : decode cL_law 787 = .ok (.aload_n 2, 1) := dk_44 (dk_at dksL_law_30 3 rfl rfl)
theorem dL_law_788 : decode cL_law 788 = .ok (.invokevirtual 101, 3) := dk_182 0 101 (dk_at dksL_law_30 4 rfl rfl)
theorem dL_law_791 : decode cL_law 791 = .ok (.if_icmp .eq 84, 3) := dk_159 0 84 (dk_at dksL_law_30 7 rfl rfl)
theorem dL_law_794 : decode cL_law 794 = .ok (.iconst 0, 1) := dk_3 (dk_at dksL_law_30 10 rfl rfl)
theorem dL_law_795 : decode cL_law 795 = .ok (.ireturn, 1) := dk_172 (dk_at dksL_law_30 11 rfl rfl)
theorem dL_law_796 : decode cL_law 796 = .ok (.aload_n 1, 1) := dk_43 (dk_at dksL_law_30 12 rfl rfl)
theorem dL_law_797 : decode cL_law 797 = .ok (.aload_n 0, 1) := dk_42 (dk_at dksL_law_30 13 rfl rfl)
theorem dL_law_798 : decode cL_law 798 = .ok (.iload_n 3, 1) := dk_29 (dk_at dksL_law_30 14 rfl rfl)
theorem dL_law_799 : decode cL_law 799 = .ok (.iconst 1, 1) := dk_4 (dk_at dksL_law_30 15 rfl rfl)
theorem dL_law_800 : decode cL_law 800 = .ok (.iadd, 1) := dk_96 (dk_at dksL_law_30 16 rfl rfl)
theorem dL_law_801 : decode cL_law 801 = .ok (.iaload, 1) := dk_46 (dk_at dksL_law_30 17 rfl rfl)
theorem dL_law_802 : decode cL_law 802 = .ok (.invokevirtual 102, 3) := dk_182 0 102 (dk_at dksL_law_30 18 rfl rfl)
theorem dL_law_805 : decode cL_law 805 = .ok (.aload_n 2, 1) := dk_44 (dk_at dksL_law_30 21 rfl rfl)
theorem dL_law_806 : decode cL_law 806 = .ok (.aload_n 0, 1) := dk_42 (dk_at dksL_law_30 22 rfl rfl)
theorem dL_law_807 : decode cL_law 807 = .ok (.iload_n 3, 1) := dk_29 (dk_at dksL_law_30 23 rfl rfl)
theorem dL_law_808 : decode cL_law 808 = .ok (.iconst 1, 1) := dk_4 (dk_at dksL_law_31 0 rfl rfl)
theorem dL_law_809 : decode cL_law 809 = .ok (.iadd, 1) := dk_96 (dk_at dksL_law_31 1 rfl rfl)
theorem dL_law_810 : decode cL_law 810 = .ok (.iaload, 1) := dk_46 (dk_at dksL_law_31 2 rfl rfl)
theorem dL_law_811 : decode cL_law 811 = .ok (.invokevirtual 105, 3) := dk_182 0 105 (dk_at dksL_law_31 3 rfl rfl)
theorem dL_law_814 : decode cL_law 814 = .ok (.if_icmp .eq 61, 3) := dk_159 0 61 (dk_at dksL_law_31 6 rfl rfl)
theorem dL_law_817 : decode cL_law 817 = .ok (.iconst 0, 1) := dk_3 (dk_at dksL_law_31 9 rfl rfl)
theorem dL_law_818 : decode cL_law 818 = .ok (.ireturn, 1) := dk_172 (dk_at dksL_law_31 10 rfl rfl)
theorem dL_law_819 : decode cL_law 819 = .ok (.aload_n 1, 1) := dk_43 (dk_at dksL_law_31 11 rfl rfl)
theorem dL_law_820 : decode cL_law 820 = .ok (.aload_n 0, 1) := dk_42 (dk_at dksL_law_31 12 rfl rfl)
theorem dL_law_821 : decode cL_law 821 = .ok (.iload_n 3, 1) := dk_29 (dk_at dksL_law_31 13 rfl rfl)
theorem dL_law_822 : decode cL_law 822 = .ok (.iconst 1, 1) := dk_4 (dk_at dksL_law_31 14 rfl rfl)
theorem dL_law_823 : decode cL_law 823 = .ok (.iadd, 1) := dk_96 (dk_at dksL_law_31 15 rfl rfl)
theorem dL_law_824 : decode cL_law 824 = .ok (.iaload, 1) := dk_46 (dk_at dksL_law_31 16 rfl rfl)
theorem dL_law_825 : decode cL_law 825 = .ok (.aload_n 0, 1) := dk_42 (dk_at dksL_law_31 17 rfl rfl)
theorem dL_law_826 : decode cL_law 826 = .ok (.iload_n 3, 1) := dk_29 (dk_at dksL_law_31 18 rfl rfl)
theorem dL_law_827 : decode cL_law 827 = .ok (.iconst 2, 1) := dk_5 (dk_at dksL_law_31 19 rfl rfl)
theorem dL_law_828 : decode cL_law 828 = .ok (.iadd, 1) := dk_96 (dk_at dksL_law_31 20 rfl rfl)
theorem dL_law_829 : decode cL_law 829 = .ok (.iaload, 1) := dk_46 (dk_at dksL_law_31 21 rfl rfl)
theorem dL_law_830 : decode cL_law 830 = .ok (.invokevirtual 106, 3) := dk_182 0 106 (dk_at dksL_law_32 0 rfl rfl)
theorem dL_law_833 : decode cL_law 833 = .ok (.aload_n 2, 1) := dk_44 (dk_at dksL_law_32 3 rfl rfl)
theorem dL_law_834 : decode cL_law 834 = .ok (.aload_n 0, 1) := dk_42 (dk_at dksL_law_32 4 rfl rfl)
theorem dL_law_835 : decode cL_law 835 = .ok (.iload_n 3, 1) := dk_29 (dk_at dksL_law_32 5 rfl rfl)
theorem dL_law_836 : decode cL_law 836 = .ok (.iconst 1, 1) := dk_4 (dk_at dksL_law_32 6 rfl rfl)
theorem dL_law_837 : decode cL_law 837 = .ok (.iadd, 1) := dk_96 (dk_at dksL_law_32 7 rfl rfl)
theorem dL_law_838 : decode cL_law 838 = .ok (.iaload, 1) := dk_46 (dk_at dksL_law_32 8 rfl rfl)
theorem dL_law_839 : decode cL_law 839 = .ok (.aload_n 0, 1) := dk_42 (dk_at dksL_law_32 9 rfl rfl)
theorem dL_law_840 : decode cL_law 840 = .ok (.iload_n 3, 1) := dk_29 (dk_at dksL_law_32 10 rfl rfl)
theorem dL_law_841 : decode cL_law 841 = .ok (.iconst 2, 1) := dk_5 (dk_at dksL_law_32 11 rfl rfl)
theorem dL_law_842 : decode cL_law 842 = .ok (.iadd, 1) := dk_96 (dk_at dksL_law_32 12 rfl rfl)
theorem dL_law_843 : decode cL_law 843 = .ok (.iaload, 1) := dk_46 (dk_at dksL_law_32 13 rfl rfl)
theorem dL_law_844 : decode cL_law 844 = .ok (.invokevirtual 109, 3) := dk_182 0 109 (dk_at dksL_law_32 14 rfl rfl)
theorem dL_law_847 : decode cL_law 847 = .ok (.if_icmp .eq 28, 3) := dk_159 0 28 (dk_at dksL_law_32 17 rfl rfl)
theorem dL_law_850 : decode cL_law 850 = .ok (.iconst 0, 1) := dk_3 (dk_at dksL_law_32 20 rfl rfl)
theorem dL_law_851 : decode cL_law 851 = .ok (.ireturn, 1) := dk_172 (dk_at dksL_law_32 21 rfl rfl)
theorem dL_law_852 : decode cL_law 852 = .ok (.aload_n 1, 1) := dk_43 (dk_at dksL_law_32 22 rfl rfl)
theorem dL_law_853 : decode cL_law 853 = .ok (.aload_n 0, 1) := dk_42 (dk_at dksL_law_32 23 rfl rfl)
theorem dL_law_854 : decode cL_law 854 = .ok (.iload_n 3, 1) := dk_29 (dk_at dksL_law_33 0 rfl rfl)
theorem dL_law_855 : decode cL_law 855 = .ok (.iconst 1, 1) := dk_4 (dk_at dksL_law_33 1 rfl rfl)
theorem dL_law_856 : decode cL_law 856 = .ok (.iadd, 1) := dk_96 (dk_at dksL_law_33 2 rfl rfl)
theorem dL_law_857 : decode cL_law 857 = .ok (.iaload, 1) := dk_46 (dk_at dksL_law_33 3 rfl rfl)
theorem dL_law_858 : decode cL_law 858 = .ok (.invokevirtual 110, 3) := dk_182 0 110 (dk_at dksL_law_33 4 rfl rfl)
theorem dL_law_861 : decode cL_law 861 = .ok (.aload_n 2, 1) := dk_44 (dk_at dksL_law_33 7 rfl rfl)
theorem dL_law_862 : decode cL_law 862 = .ok (.aload_n 0, 1) := dk_42 (dk_at dksL_law_33 8 rfl rfl)
theorem dL_law_863 : decode cL_law 863 = .ok (.iload_n 3, 1) := dk_29 (dk_at dksL_law_33 9 rfl rfl)
theorem dL_law_864 : decode cL_law 864 = .ok (.iconst 1, 1) := dk_4 (dk_at dksL_law_33 10 rfl rfl)
theorem dL_law_865 : decode cL_law 865 = .ok (.iadd, 1) := dk_96 (dk_at dksL_law_33 11 rfl rfl)
theorem dL_law_866 : decode cL_law 866 = .ok (.iaload, 1) := dk_46 (dk_at dksL_law_33 12 rfl rfl)
theorem dL_law_867 : decode cL_law 867 = .ok (.invokevirtual 113, 3) := dk_182 0 113 (dk_at dksL_law_33 13 rfl rfl)
theorem dL_law_870 : decode cL_law 870 = .ok (.if_icmp .eq 5, 3) := dk_159 0 5 (dk_at dksL_law_33 16 rfl rfl)
theorem dL_law_873 : decode cL_law 873 = .ok (.iconst 0, 1) := dk_3 (dk_at dksL_law_33 19 rfl rfl)
theorem dL_law_874 : decode cL_law 874 = .ok (.ireturn, 1) := dk_172 (dk_at dksL_law_33 20 rfl rfl)
theorem dL_law_875 : decode cL_law 875 = .ok (.iinc 3 6, 3) := dk_132 3 6 (dk_at dksL_law_33 21 rfl rfl)
theorem dL_law_878 : decode cL_law 878 = .ok (.goto (-860), 3) := dk_167 252 164 (dk_at dksL_law_34 0 rfl rfl)
theorem dL_law_881 : decode cL_law 881 = .ok (.iconst 1, 1) := dk_4 (dk_at dksL_law_34 3 rfl rfl)
theorem dL_law_882 : decode cL_law 882 = .ok (.ireturn, 1) := dk_172 (dk_at dksL_law_34 4 rfl rfl)
theorem q53 : (Jvm.Cond.initialized "PlyHouseLaw") ∈ lw_all := lw_g (lw_at lw_m1 0 rfl) rfl
set_option maxRecDepth 100000
theorem q78 : (Jvm.Cond.methodLink "PlyHouseLaw" (13 : Nat) ({ cls := "PlyHouse", name := "net", desc := "(II)Z" } : Jvm.MethodName)) ∈ lw_all := lw_g (lw_at lw_m1 25 rfl) rfl
theorem q83 : (Jvm.Cond.methodLink "PlyHouseLaw" (18 : Nat) ({ cls := "PlyHouse", name := "centre", desc := "(I)I" } : Jvm.MethodName)) ∈ lw_all := lw_g (lw_at lw_m1 30 rfl) rfl
theorem q100 : (Jvm.Cond.methodLink "PlyHouseLaw" (23 : Nat) ({ cls := "PlyHouse", name := "full", desc := "(II)I" } : Jvm.MethodName)) ∈ lw_all := lw_g (lw_at lw_m1 47 rfl) rfl
theorem q104 : (Jvm.Cond.methodLink "PlyHouseLaw" (28 : Nat) ({ cls := "PlyHouse", name := "feed", desc := "(IIIII)I" } : Jvm.MethodName)) ∈ lw_all := lw_g (lw_at lw_m1 51 rfl) rfl
theorem q112 : (Jvm.Cond.methodLink "PlyHouseLaw" (33 : Nat) ({ cls := "PlyHouse", name := "end", desc := "(I)I" } : Jvm.MethodName)) ∈ lw_all := lw_g (lw_at lw_m1 59 rfl) rfl
theorem q116 : (Jvm.Cond.methodLink "PlyHouseLaw" (37 : Nat) ({ cls := "PlyHouse", name := "grades", desc := "()I" } : Jvm.MethodName)) ∈ lw_all := lw_g (lw_at lw_m1 63 rfl) rfl
theorem q529 : (Jvm.Cond.methodLink "PlyHouseLaw" (42 : Nat) ({ cls := "PlyHouse", name := "fault", desc := "(I)I" } : Jvm.MethodName)) ∈ lw_all := lw_g (lw_at lw_m2 236 rfl) rfl
theorem q533 : (Jvm.Cond.methodLink "PlyHouseLaw" (46 : Nat) ({ cls := "PlyHouse", name := "leaf", desc := "()I" } : Jvm.MethodName)) ∈ lw_all := lw_g (lw_at lw_m3 0 rfl) rfl
theorem q543 : (Jvm.Cond.methodLink "PlyHouseLaw" (50 : Nat) ({ cls := "PlyHouse", name := "patch", desc := "(II)Z" } : Jvm.MethodName)) ∈ lw_all := lw_g (lw_at lw_m3 10 rfl) rfl
theorem q547 : (Jvm.Cond.methodLink "PlyHouseLaw" (54 : Nat) ({ cls := "PlyHouse", name := "sheet", desc := "(III)I" } : Jvm.MethodName)) ∈ lw_all := lw_g (lw_at lw_m3 14 rfl) rfl
theorem q596 : (Jvm.Cond.methodLink "PlyHouseLaw" (59 : Nat) ({ cls := "PlyHouse", name := "worth", desc := "()I" } : Jvm.MethodName)) ∈ lw_all := lw_g (lw_at lw_m3 63 rfl) rfl
theorem q608 : (Jvm.Cond.methodLink "PlyHouseLaw" (63 : Nat) ({ cls := "PlyHouse", name := "sheets", desc := "()I" } : Jvm.MethodName)) ∈ lw_all := lw_g (lw_at lw_m3 75 rfl) rfl
theorem q612 : (Jvm.Cond.methodLink "PlyHouseLaw" (67 : Nat) ({ cls := "PlyHouse", name := "clipped", desc := "(II)I" } : Jvm.MethodName)) ∈ lw_all := lw_g (lw_at lw_m3 79 rfl) rfl
theorem q616 : (Jvm.Cond.classLink "PlyHouseLaw" (7 : Nat) "PlyHouse") ∈ lw_all := lw_g (lw_at lw_m3 83 rfl) rfl
theorem q617 : (Jvm.Cond.methodLink "PlyHouseLaw" (9 : Nat) ({ cls := "PlyHouse", name := "<init>", desc := "()V" } : Jvm.MethodName)) ∈ lw_all := lw_g (lw_at lw_m3 84 rfl) rfl
theorem q757 : (Jvm.Cond.methodLink "PlyHouseLaw" (71 : Nat) ({ cls := "PlyHouse", name := "veneer", desc := "(IIIIZ)Z" } : Jvm.MethodName)) ∈ lw_all := lw_g (lw_at lw_m3 224 rfl) rfl
theorem q761 : (Jvm.Cond.methodLink "PlyHouseLaw" (76 : Nat) ({ cls := "PlyHouse", name := "board", desc := "(III)I" } : Jvm.MethodName)) ∈ lw_all := lw_g (lw_at lw_m3 228 rfl) rfl
theorem q779 : (Jvm.Cond.methodLink "PlyHouseLaw" (80 : Nat) ({ cls := "PlyHouse", name := "warp", desc := "(II)I" } : Jvm.MethodName)) ∈ lw_all := lw_g (lw_at lw_m4 6 rfl) rfl
theorem q784 : (Jvm.Cond.methodLink "PlyHouseLaw" (84 : Nat) ({ cls := "PlyHouse", name := "best", desc := "(III)I" } : Jvm.MethodName)) ∈ lw_all := lw_g (lw_at lw_m4 11 rfl) rfl
theorem q791 : (Jvm.Cond.methodLink "PlyHouseLaw" (88 : Nat) ({ cls := "PlyHouse", name := "press", desc := "(IIII)Z" } : Jvm.MethodName)) ∈ lw_all := lw_g (lw_at lw_m4 18 rfl) rfl
theorem q795 : (Jvm.Cond.methodLink "PlyHouseLaw" (93 : Nat) ({ cls := "PlyHouse", name := "glue", desc := "(II)I" } : Jvm.MethodName)) ∈ lw_all := lw_g (lw_at lw_m4 22 rfl) rfl
theorem q799 : (Jvm.Cond.methodLink "PlyHouseLaw" (97 : Nat) ({ cls := "PlyHouse", name := "drop", desc := "()Z" } : Jvm.MethodName)) ∈ lw_all := lw_g (lw_at lw_m4 26 rfl) rfl
theorem q803 : (Jvm.Cond.methodLink "PlyHouseLaw" (102 : Nat) ({ cls := "PlyHouse", name := "plan", desc := "(I)I" } : Jvm.MethodName)) ∈ lw_all := lw_g (lw_at lw_m4 30 rfl) rfl
theorem q839 : (Jvm.Cond.methodLink "PlyHouseLaw" (106 : Nat) ({ cls := "PlyHouse", name := "load", desc := "(II)I" } : Jvm.MethodName)) ∈ lw_all := lw_g (lw_at lw_m4 66 rfl) rfl
theorem q843 : (Jvm.Cond.methodLink "PlyHouseLaw" (110 : Nat) ({ cls := "PlyHouse", name := "about", desc := "(I)I" } : Jvm.MethodName)) ∈ lw_all := lw_g (lw_at lw_m4 70 rfl) rfl
theorem q847 : (Jvm.Cond.classLink "PlyHouseLaw" (10 : Nat) "PlyHouseModel") ∈ lw_all := lw_g (lw_at lw_m4 74 rfl) rfl
theorem q849 : (Jvm.Cond.methodLink "PlyHouseLaw" (12 : Nat) ({ cls := "PlyHouseModel", name := "<init>", desc := "()V" } : Jvm.MethodName)) ∈ lw_all := lw_g (lw_at lw_m4 76 rfl) rfl
theorem q1037 : (Jvm.Cond.methodLink "PlyHouseLaw" (17 : Nat) ({ cls := "PlyHouseModel", name := "net", desc := "(II)Z" } : Jvm.MethodName)) ∈ lw_all := lw_g (lw_at lw_m5 24 rfl) rfl
theorem q1042 : (Jvm.Cond.methodLink "PlyHouseLaw" (22 : Nat) ({ cls := "PlyHouseModel", name := "centre", desc := "(I)I" } : Jvm.MethodName)) ∈ lw_all := lw_g (lw_at lw_m5 29 rfl) rfl
theorem q1058 : (Jvm.Cond.methodLink "PlyHouseLaw" (27 : Nat) ({ cls := "PlyHouseModel", name := "full", desc := "(II)I" } : Jvm.MethodName)) ∈ lw_all := lw_g (lw_at lw_m5 45 rfl) rfl
theorem q1062 : (Jvm.Cond.methodLink "PlyHouseLaw" (32 : Nat) ({ cls := "PlyHouseModel", name := "feed", desc := "(IIIII)I" } : Jvm.MethodName)) ∈ lw_all := lw_g (lw_at lw_m5 49 rfl) rfl
theorem q1070 : (Jvm.Cond.methodLink "PlyHouseLaw" (36 : Nat) ({ cls := "PlyHouseModel", name := "end", desc := "(I)I" } : Jvm.MethodName)) ∈ lw_all := lw_g (lw_at lw_m5 57 rfl) rfl
theorem q1074 : (Jvm.Cond.methodLink "PlyHouseLaw" (41 : Nat) ({ cls := "PlyHouseModel", name := "grades", desc := "()I" } : Jvm.MethodName)) ∈ lw_all := lw_g (lw_at lw_m5 61 rfl) rfl
theorem q1162 : (Jvm.Cond.methodLink "PlyHouseLaw" (45 : Nat) ({ cls := "PlyHouseModel", name := "fault", desc := "(I)I" } : Jvm.MethodName)) ∈ lw_all := lw_g (lw_at lw_m5 149 rfl) rfl
theorem q1166 : (Jvm.Cond.methodLink "PlyHouseLaw" (49 : Nat) ({ cls := "PlyHouseModel", name := "leaf", desc := "()I" } : Jvm.MethodName)) ∈ lw_all := lw_g (lw_at lw_m5 153 rfl) rfl
theorem q1173 : (Jvm.Cond.methodLink "PlyHouseLaw" (53 : Nat) ({ cls := "PlyHouseModel", name := "patch", desc := "(II)Z" } : Jvm.MethodName)) ∈ lw_all := lw_g (lw_at lw_m5 160 rfl) rfl
theorem q1177 : (Jvm.Cond.methodLink "PlyHouseLaw" (58 : Nat) ({ cls := "PlyHouseModel", name := "sheet", desc := "(III)I" } : Jvm.MethodName)) ∈ lw_all := lw_g (lw_at lw_m5 164 rfl) rfl
theorem q1189 : (Jvm.Cond.methodLink "PlyHouseLaw" (62 : Nat) ({ cls := "PlyHouseModel", name := "worth", desc := "()I" } : Jvm.MethodName)) ∈ lw_all := lw_g (lw_at lw_m5 176 rfl) rfl
theorem q1200 : (Jvm.Cond.methodLink "PlyHouseLaw" (66 : Nat) ({ cls := "PlyHouseModel", name := "sheets", desc := "()I" } : Jvm.MethodName)) ∈ lw_all := lw_g (lw_at lw_m5 187 rfl) rfl
theorem q1204 : (Jvm.Cond.methodLink "PlyHouseLaw" (70 : Nat) ({ cls := "PlyHouseModel", name := "clipped", desc := "(II)I" } : Jvm.MethodName)) ∈ lw_all := lw_g (lw_at lw_m5 191 rfl) rfl
theorem q1208 : (Jvm.Cond.methodLink "PlyHouseLaw" (75 : Nat) ({ cls := "PlyHouseModel", name := "veneer", desc := "(IIIIZ)Z" } : Jvm.MethodName)) ∈ lw_all := lw_g (lw_at lw_m5 195 rfl) rfl
theorem q1212 : (Jvm.Cond.methodLink "PlyHouseLaw" (79 : Nat) ({ cls := "PlyHouseModel", name := "board", desc := "(III)I" } : Jvm.MethodName)) ∈ lw_all := lw_g (lw_at lw_m5 199 rfl) rfl
theorem q1224 : (Jvm.Cond.methodLink "PlyHouseLaw" (83 : Nat) ({ cls := "PlyHouseModel", name := "warp", desc := "(II)I" } : Jvm.MethodName)) ∈ lw_all := lw_g (lw_at lw_m5 211 rfl) rfl
theorem q1229 : (Jvm.Cond.methodLink "PlyHouseLaw" (87 : Nat) ({ cls := "PlyHouseModel", name := "best", desc := "(III)I" } : Jvm.MethodName)) ∈ lw_all := lw_g (lw_at lw_m5 216 rfl) rfl
theorem q1233 : (Jvm.Cond.methodLink "PlyHouseLaw" (92 : Nat) ({ cls := "PlyHouseModel", name := "press", desc := "(IIII)Z" } : Jvm.MethodName)) ∈ lw_all := lw_g (lw_at lw_m5 220 rfl) rfl
theorem q1237 : (Jvm.Cond.methodLink "PlyHouseLaw" (96 : Nat) ({ cls := "PlyHouseModel", name := "glue", desc := "(II)I" } : Jvm.MethodName)) ∈ lw_all := lw_g (lw_at lw_m5 224 rfl) rfl
theorem q1241 : (Jvm.Cond.methodLink "PlyHouseLaw" (101 : Nat) ({ cls := "PlyHouseModel", name := "drop", desc := "()Z" } : Jvm.MethodName)) ∈ lw_all := lw_g (lw_at lw_m5 228 rfl) rfl
theorem q1245 : (Jvm.Cond.methodLink "PlyHouseLaw" (105 : Nat) ({ cls := "PlyHouseModel", name := "plan", desc := "(I)I" } : Jvm.MethodName)) ∈ lw_all := lw_g (lw_at lw_m5 232 rfl) rfl
theorem q1269 : (Jvm.Cond.methodLink "PlyHouseLaw" (109 : Nat) ({ cls := "PlyHouseModel", name := "load", desc := "(II)I" } : Jvm.MethodName)) ∈ lw_all := lw_g (lw_at lw_m6 16 rfl) rfl
theorem q1273 : (Jvm.Cond.methodLink "PlyHouseLaw" (113 : Nat) ({ cls := "PlyHouseModel", name := "about", desc := "(I)I" } : Jvm.MethodName)) ∈ lw_all := lw_g (lw_at lw_m6 20 rfl) rfl
theorem q575 : (Jvm.Cond.declares ({ cls := "PlyHouse$Values", name := "of", desc := "(LPlyHouse$Part;)I" } : Jvm.MethodName)) ∈ lw_tbl := lw_at lw_m3 42 rfl
set_option maxRecDepth 100000
theorem q76 : (Jvm.Cond.initialized "java/lang/System") ∈ lw_all := lw_g (lw_at lw_m1 23 rfl) rfl
set_option maxRecDepth 100000
theorem q541 : (Jvm.Cond.static ({ cls := "java/lang/System", name := "arraycopy", desc := "(Ljava/lang/Object;ILjava/lang/Object;II)V" } : Jvm.MethodName)) ∈ lw_all := lw_g (lw_at lw_m3 8 rfl) rfl
theorem q542 : (Jvm.Cond.native ({ cls := "java/lang/System", name := "arraycopy", desc := "(Ljava/lang/Object;ILjava/lang/Object;II)V" } : Jvm.MethodName)) ∈ lw_all := lw_g (lw_at lw_m3 9 rfl) rfl
theorem q169 : (Jvm.Cond.arrayOver (Jvm.ClassFile.FieldType.object "PlyHouse$Node")) ∈ lw_tbl := lw_at lw_m1 116 rfl
set_option maxRecDepth 100000
theorem q190 : (Jvm.Cond.arrayClass Jvm.ClassFile.FieldType.int) ∈ lw_all := lw_g (lw_at lw_m1 137 rfl) rfl
theorem q426 : (Jvm.Cond.arrayClass Jvm.ClassFile.FieldType.byte) ∈ lw_all := lw_g (lw_at lw_m2 133 rfl) rfl
theorem q756 : (Jvm.Cond.arrayClass Jvm.ClassFile.FieldType.boolean) ∈ lw_all := lw_g (lw_at lw_m3 223 rfl) rfl
