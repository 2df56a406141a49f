/-! the law's own entry -/
set_option maxRecDepth 100000
abbrev cL_law : ByteArray := code
def dkwL_law_31 : List UInt8 := [159, 0, 5, 3, 172, 132, 3, 6, 167, 252, 211, 4, 172]
abbrev dktL_law_31 : List UInt8 := dkwL_law_31 ++ []
def dkwL_law_30 : List UInt8 := [159, 0, 28, 3, 172, 43, 42, 29, 4, 96, 46, 182, 0, 122, 44, 42, 29, 4, 96, 46, 182, 0, 125]
abbrev dktL_law_30 : List UInt8 := dkwL_law_30 ++ dktL_law_31
def dkwL_law_29 : List UInt8 := [148, 153, 0, 51, 3, 172, 43, 42, 29, 4, 96, 46, 182, 0, 118, 44, 42, 29, 4, 96, 46, 182, 0, 121]
abbrev dktL_law_29 : List UInt8 := dkwL_law_29 ++ dktL_law_30
def dkwL_law_28 : List UInt8 := [46, 42, 29, 5, 96, 46, 42, 29, 6, 96, 46, 42, 29, 7, 96, 46, 42, 29, 8, 96, 46, 182, 0, 117]
abbrev dktL_law_28 : List UInt8 := dkwL_law_28 ++ dktL_law_29
def dkwL_law_27 : List UInt8 := [46, 42, 29, 6, 96, 46, 42, 29, 7, 96, 46, 42, 29, 8, 96, 46, 182, 0, 113, 44, 42, 29, 4, 96]
abbrev dktL_law_27 : List UInt8 := dkwL_law_27 ++ dktL_law_28
def dkwL_law_26 : List UInt8 := [46, 42, 29, 5, 96, 46, 182, 0, 112, 159, 0, 115, 3, 172, 43, 42, 29, 4, 96, 46, 42, 29, 5, 96]
abbrev dktL_law_26 : List UInt8 := dkwL_law_26 ++ dktL_law_27
def dkwL_law_25 : List UInt8 := [159, 0, 148, 3, 172, 43, 42, 29, 4, 96, 46, 42, 29, 5, 96, 46, 182, 0, 109, 44, 42, 29, 4, 96]
abbrev dktL_law_25 : List UInt8 := dkwL_law_25 ++ dktL_law_26
def dkwL_law_24 : List UInt8 := [159, 0, 171, 3, 172, 43, 42, 29, 4, 96, 46, 182, 0, 105, 44, 42, 29, 4, 96, 46, 182, 0, 108]
abbrev dktL_law_24 : List UInt8 := dkwL_law_24 ++ dktL_law_25
def dkwL_law_23 : List UInt8 := [96, 46, 42, 29, 7, 96, 46, 182, 0, 100, 159, 0, 184, 3, 172, 43, 182, 0, 101, 44, 182, 0, 104]
abbrev dktL_law_23 : List UInt8 := dkwL_law_23 ++ dktL_law_24
def dkwL_law_22 : List UInt8 := [96, 46, 42, 29, 7, 96, 46, 182, 0, 96, 44, 42, 29, 4, 96, 46, 42, 29, 5, 96, 46, 42, 29, 6]
abbrev dktL_law_22 : List UInt8 := dkwL_law_22 ++ dktL_law_23
def dkwL_law_21 : List UInt8 := [96, 46, 182, 0, 95, 159, 0, 237, 3, 172, 43, 42, 29, 4, 96, 46, 42, 29, 5, 96, 46, 42, 29, 6]
abbrev dktL_law_21 : List UInt8 := dkwL_law_21 ++ dktL_law_22
def dkwL_law_20 : List UInt8 := [4, 96, 46, 182, 0, 91, 159, 1, 4, 3, 172, 43, 42, 29, 4, 96, 46, 182, 0, 92, 44, 42, 29, 4]
abbrev dktL_law_20 : List UInt8 := dkwL_law_20 ++ dktL_law_21
def dkwL_law_19 : List UInt8 := [182, 0, 84, 44, 182, 0, 87, 159, 1, 27, 3, 172, 43, 42, 29, 4, 96, 46, 182, 0, 88, 44, 42, 29]
abbrev dktL_law_19 : List UInt8 := dkwL_law_19 ++ dktL_law_20
def dkwL_law_18 : List UInt8 := [42, 29, 4, 96, 46, 182, 0, 80, 44, 42, 29, 4, 96, 46, 182, 0, 83, 159, 1, 40, 3, 172, 43]
abbrev dktL_law_18 : List UInt8 := dkwL_law_18 ++ dktL_law_19
def dkwL_law_17 : List UInt8 := [96, 46, 182, 0, 75, 159, 1, 76, 3, 172, 43, 182, 0, 76, 44, 182, 0, 79, 159, 1, 63, 3, 172, 43]
abbrev dktL_law_17 : List UInt8 := dkwL_law_17 ++ dktL_law_18
def dkwL_law_16 : List UInt8 := [4, 96, 46, 182, 0, 71, 159, 1, 99, 3, 172, 43, 42, 29, 4, 96, 46, 182, 0, 72, 44, 42, 29, 4]
abbrev dktL_law_16 : List UInt8 := dkwL_law_16 ++ dktL_law_17
def dkwL_law_15 : List UInt8 := [182, 0, 64, 44, 182, 0, 67, 159, 1, 122, 3, 172, 43, 42, 29, 4, 96, 46, 182, 0, 68, 44, 42, 29]
abbrev dktL_law_15 : List UInt8 := dkwL_law_15 ++ dktL_law_16
def dkwL_law_14 : List UInt8 := [46, 182, 0, 59, 159, 1, 148, 3, 172, 43, 182, 0, 60, 44, 182, 0, 63, 159, 1, 135, 3, 172, 43]
abbrev dktL_law_14 : List UInt8 := dkwL_law_14 ++ dktL_law_15
def dkwL_law_13 : List UInt8 := [43, 42, 29, 4, 96, 46, 42, 29, 5, 96, 46, 182, 0, 56, 44, 42, 29, 4, 96, 46, 42, 29, 5, 96]
abbrev dktL_law_13 : List UInt8 := dkwL_law_13 ++ dktL_law_14
def dkwL_law_12 : List UInt8 := [5, 96, 46, 182, 0, 51, 159, 1, 194, 3, 172, 43, 182, 0, 52, 44, 182, 0, 55, 159, 1, 181, 3, 172]
abbrev dktL_law_12 : List UInt8 := dkwL_law_12 ++ dktL_law_13
def dkwL_law_11 : List UInt8 := [3, 172, 43, 42, 29, 4, 96, 46, 42, 29, 5, 96, 46, 182, 0, 48, 44, 42, 29, 4, 96, 46, 42, 29]
abbrev dktL_law_11 : List UInt8 := dkwL_law_11 ++ dktL_law_12
def dkwL_law_10 : List UInt8 := [29, 5, 96, 46, 182, 0, 44, 44, 42, 29, 4, 96, 46, 42, 29, 5, 96, 46, 182, 0, 47, 159, 1, 227]
abbrev dktL_law_10 : List UInt8 := dkwL_law_10 ++ dktL_law_11
def dkwL_law_9 : List UInt8 := [29, 4, 96, 46, 42, 29, 5, 96, 46, 182, 0, 43, 159, 2, 4, 3, 172, 43, 42, 29, 4, 96, 46, 42]
abbrev dktL_law_9 : List UInt8 := dkwL_law_9 ++ dktL_law_10
def dkwL_law_8 : List UInt8 := [182, 0, 39, 159, 2, 37, 3, 172, 43, 42, 29, 4, 96, 46, 42, 29, 5, 96, 46, 182, 0, 40, 44, 42]
abbrev dktL_law_8 : List UInt8 := dkwL_law_8 ++ dktL_law_9
def dkwL_law_7 : List UInt8 := [42, 29, 4, 96, 46, 42, 29, 5, 96, 46, 182, 0, 36, 44, 42, 29, 4, 96, 46, 42, 29, 5, 96, 46]
abbrev dktL_law_7 : List UInt8 := dkwL_law_7 ++ dktL_law_8
def dkwL_law_6 : List UInt8 := [46, 182, 0, 31, 44, 42, 29, 4, 96, 46, 42, 29, 5, 96, 46, 182, 0, 35, 159, 2, 70, 3, 172, 43]
abbrev dktL_law_6 : List UInt8 := dkwL_law_6 ++ dktL_law_7
def dkwL_law_5 : List UInt8 := [172, 43, 182, 0, 27, 44, 182, 0, 30, 159, 2, 103, 3, 172, 43, 42, 29, 4, 96, 46, 42, 29, 5, 96]
abbrev dktL_law_5 : List UInt8 := dkwL_law_5 ++ dktL_law_6
def dkwL_law_4 : List UInt8 := [182, 0, 18, 44, 182, 0, 22, 159, 2, 129, 3, 172, 43, 182, 0, 23, 44, 182, 0, 26, 159, 2, 116, 3]
abbrev dktL_law_4 : List UInt8 := dkwL_law_4 ++ dktL_law_5
def dkwL_law_3 : List UInt8 := [43, 42, 29, 4, 96, 46, 182, 0, 13, 44, 42, 29, 4, 96, 46, 182, 0, 17, 159, 2, 142, 3, 172, 43]
abbrev dktL_law_3 : List UInt8 := dkwL_law_3 ++ dktL_law_4
def dkwL_law_2 : List UInt8 := [170, 0, 0, 0, 0, 3, 27, 0, 0, 0, 0, 0, 0, 0, 26, 0, 0, 0, 123, 0, 0, 0, 146, 0, 0, 0, 159, 0, 0, 0, 172, 0, 0, 0, 185, 0, 0, 0, 218, 0, 0, 0, 251, 0, 0, 1, 28, 0, 0, 1, 61, 0, 0, 1, 94, 0, 0, 1, 107, 0, 0, 1, 140, 0, 0, 1, 153, 0, 0, 1, 166, 0, 0, 1, 189, 0, 0, 1, 212, 0, 0, 1, 225, 0, 0, 1, 248, 0, 0, 2, 5, 0, 0, 2, 28, 0, 0, 2, 51, 0, 0, 2, 104, 0, 0, 2, 117, 0, 0, 2, 140, 0, 0, 2, 173, 0, 0, 2, 237, 0, 0, 3, 4]
abbrev dktL_law_2 : List UInt8 := dkwL_law_2 ++ dktL_law_3
def dkwL_law_1 : List UInt8 := [163, 3, 42, 42, 29, 46, 16, 31, 126]
abbrev dktL_law_1 : List UInt8 := dkwL_law_1 ++ dktL_law_2
def dkwL_law_0 : List UInt8 := [187, 0, 7, 89, 183, 0, 9, 76, 187, 0, 10, 89, 183, 0, 12, 77, 3, 62, 29, 42, 190, 16, 6, 100]
abbrev dktL_law_0 : List UInt8 := dkwL_law_0 ++ dktL_law_1
theorem dksL_law_0 : cL_law.data.toList.drop 0 = dktL_law_0 := by decide +kernel
theorem dksL_law_1 : cL_law.data.toList.drop 24 = dktL_law_1 := dk_seg dksL_law_0 24 rfl rfl
theorem dksL_law_2 : cL_law.data.toList.drop 33 = dktL_law_2 := dk_seg dksL_law_1 9 rfl rfl
theorem dksL_law_3 : cL_law.data.toList.drop 156 = dktL_law_3 := dk_seg dksL_law_2 123 rfl rfl
theorem dksL_law_4 : cL_law.data.toList.drop 180 = dktL_law_4 := dk_seg dksL_law_3 24 rfl rfl
theorem dksL_law_5 : cL_law.data.toList.drop 204 = dktL_law_5 := dk_seg dksL_law_4 24 rfl rfl
theorem dksL_law_6 : cL_law.data.toList.drop 228 = dktL_law_6 := dk_seg dksL_law_5 24 rfl rfl
theorem dksL_law_7 : cL_law.data.toList.drop 252 = dktL_law_7 := dk_seg dksL_law_6 24 rfl rfl
theorem dksL_law_8 : cL_law.data.toList.drop 276 = dktL_law_8 := dk_seg dksL_law_7 24 rfl rfl
theorem dksL_law_9 : cL_law.data.toList.drop 300 = dktL_law_9 := dk_seg dksL_law_8 24 rfl rfl
theorem dksL_law_10 : cL_law.data.toList.drop 324 = dktL_law_10 := dk_seg dksL_law_9 24 rfl rfl
theorem dksL_law_11 : cL_law.data.toList.drop 348 = dktL_law_11 := dk_seg dksL_law_10 24 rfl rfl
theorem dksL_law_12 : cL_law.data.toList.drop 372 = dktL_law_12 := dk_seg dksL_law_11 24 rfl rfl
theorem dksL_law_13 : cL_law.data.toList.drop 396 = dktL_law_13 := dk_seg dksL_law_12 24 rfl rfl
theorem dksL_law_14 : cL_law.data.toList.drop 420 = dktL_law_14 := dk_seg dksL_law_13 24 rfl rfl
theorem dksL_law_15 : cL_law.data.toList.drop 443 = dktL_law_15 := dk_seg dksL_law_14 23 rfl rfl
theorem dksL_law_16 : cL_law.data.toList.drop 467 = dktL_law_16 := dk_seg dksL_law_15 24 rfl rfl
theorem dksL_law_17 : cL_law.data.toList.drop 491 = dktL_law_17 := dk_seg dksL_law_16 24 rfl rfl
theorem dksL_law_18 : cL_law.data.toList.drop 515 = dktL_law_18 := dk_seg dksL_law_17 24 rfl rfl
theorem dksL_law_19 : cL_law.data.toList.drop 538 = dktL_law_19 := dk_seg dksL_law_18 23 rfl rfl
theorem dksL_law_20 : cL_law.data.toList.drop 562 = dktL_law_20 := dk_seg dksL_law_19 24 rfl rfl
theorem dksL_law_21 : cL_law.data.toList.drop 586 = dktL_law_21 := dk_seg dksL_law_20 24 rfl rfl
theorem dksL_law_22 : cL_law.data.toList.drop 610 = dktL_law_22 := dk_seg dksL_law_21 24 rfl rfl
theorem dksL_law_23 : cL_law.data.toList.drop 634 = dktL_law_23 := dk_seg dksL_law_22 24 rfl rfl
theorem dksL_law_24 : cL_law.data.toList.drop 657 = dktL_law_24 := dk_seg dksL_law_23 23 rfl rfl
theorem dksL_law_25 : cL_law.data.toList.drop 680 = dktL_law_25 := dk_seg dksL_law_24 23 rfl rfl
theorem dksL_law_26 : cL_law.data.toList.drop 704 = dktL_law_26 := dk_seg dksL_law_25 24 rfl rfl
theorem dksL_law_27 : cL_law.data.toList.drop 728 = dktL_law_27 := dk_seg dksL_law_26 24 rfl rfl
theorem dksL_law_28 : cL_law.data.toList.drop 752 = dktL_law_28 := dk_seg dksL_law_27 24 rfl rfl
theorem dksL_law_29 : cL_law.data.toList.drop 776 = dktL_law_29 := dk_seg dksL_law_28 24 rfl rfl
theorem dksL_law_30 : cL_law.data.toList.drop 800 = dktL_law_30 := dk_seg dksL_law_29 24 rfl rfl
theorem dksL_law_31 : cL_law.data.toList.drop 823 = dktL_law_31 := dk_seg dksL_law_30 23 rfl rfl
theorem dL_law_0 : decode cL_law 0 = .ok (.new 7, 3) := dk_187 0 7 (dk_at dksL_law_0 0 rfl rfl)
theorem dL_law_3 : decode cL_law 3 = .ok (.dup, 1) := dk_89 (dk_at dksL_law_0 3 rfl rfl)
theorem dL_law_4 : decode cL_law 4 = .ok (.invokespecial 9, 3) := dk_183 0 9 (dk_at dksL_law_0 4 rfl rfl)
theorem dL_law_7 : decode cL_law 7 = .ok (.astore_n 1, 1) := dk_76 (dk_at dksL_law_0 7 rfl rfl)
theorem dL_law_8 : decode cL_law 8 = .ok (.new 10, 3) := dk_187 0 10 (dk_at dksL_law_0 8 rfl rfl)
theorem dL_law_11 : decode cL_law 11 = .ok (.dup, 1) := dk_89 (dk_at dksL_law_0 11 rfl rfl)
theorem dL_law_12 : decode cL_law 12 = .ok (.invokespecial 12, 3) := dk_183 0 12 (dk_at dksL_law_0 12 rfl rfl)
theorem dL_law_15 : decode cL_law 15 = .ok (.astore_n 2, 1) := dk_77 (dk_at dksL_law_0 15 rfl rfl)
theorem dL_law_16 : decode cL_law 16 = .ok (.iconst 0, 1) := dk_3 (dk_at dksL_law_0 16 rfl rfl)
theorem dL_law_17 : decode cL_law 17 = .ok (.istore_n 3, 1) := dk_62 (dk_at dksL_law_0 17 rfl rfl)
theorem dL_law_18 : decode cL_law 18 = .ok (.iload_n 3, 1) := dk_29 (dk_at dksL_law_0 18 rfl rfl)
theorem dL_law_19 : decode cL_law 19 = .ok (.aload_n 0, 1) := dk_42 (dk_at dksL_law_0 19 rfl rfl)
theorem dL_law_20 : decode cL_law 20 = .ok (.arraylength, 1) := dk_190 (dk_at dksL_law_0 20 rfl rfl)
theorem dL_law_21 : decode cL_law 21 = .ok (.bipush 6, 2) := dk_16 6 (dk_at dksL_law_0 21 rfl rfl)
theorem dL_law_23 : decode cL_law 23 = .ok (.isub, 1) := dk_100 (dk_at dksL_law_0 23 rfl rfl)
theorem dL_law_24 : decode cL_law 24 = .ok (.if_icmp .gt 810, 3) := dk_163 3 42 (dk_at dksL_law_1 0 rfl rfl)
theorem dL_law_27 : decode cL_law 27 = .ok (.aload_n 0, 1) := dk_42 (dk_at dksL_law_1 3 rfl rfl)
theorem dL_law_28 : decode cL_law 28 = .ok (.iload_n 3, 1) := dk_29 (dk_at dksL_law_1 4 rfl rfl)
theorem dL_law_29 : decode cL_law 29 = .ok (.iaload, 1) := dk_46 (dk_at dksL_law_1 5 rfl rfl)
theorem dL_law_30 : decode cL_law 30 = .ok (.bipush 31, 2) := dk_16 31 (dk_at dksL_law_1 6 rfl rfl)
theorem dL_law_32 : decode cL_law 32 = .ok (.iand, 1) := dk_126 (dk_at dksL_law_1 8 rfl rfl)
theorem dL_law_33 : decode cL_law 33 = .ok (.tableswitch 795 0 26 #[123, 146, 159, 172, 185, 218, 251, 284, 317, 350, 363, 396, 409, 422, 445, 468, 481, 504, 517, 540, 563, 616, 629, 652, 685, 749, 772], 123) := by decide +kernel
theorem dL_law_156 : decode cL_law 156 = .ok (.aload_n 1, 1) := dk_43 (dk_at dksL_law_3 0 rfl rfl)
theorem dL_law_157 : decode cL_law 157 = .ok (.aload_n 0, 1) := dk_42 (dk_at dksL_law_3 1 rfl rfl)
theorem dL_law_158 : decode cL_law 158 = .ok (.iload_n 3, 1) := dk_29 (dk_at dksL_law_3 2 rfl rfl)
theorem dL_law_159 : decode cL_law 159 = .ok (.iconst 1, 1) := dk_4 (dk_at dksL_law_3 3 rfl rfl)
theorem dL_law_160 : decode cL_law 160 = .ok (.iadd, 1) := dk_96 (dk_at dksL_law_3 4 rfl rfl)
theorem dL_law_161 : decode cL_law 161 = .ok (.iaload, 1) := dk_46 (dk_at dksL_law_3 5 rfl rfl)
theorem dL_law_162 : decode cL_law 162 = .ok (.invokevirtual 13, 3) := dk_182 0 13 (dk_at dksL_law_3 6 rfl rfl)
theorem dL_law_165 : decode cL_law 165 = .ok (.aload_n 2, 1) := dk_44 (dk_at dksL_law_3 9 rfl rfl)
theorem dL_law_166 : decode cL_law 166 = .ok (.aload_n 0, 1) := dk_42 (dk_at dksL_law_3 10 rfl rfl)
theorem dL_law_167 : decode cL_law 167 = .ok (.iload_n 3, 1) := dk_29 (dk_at dksL_law_3 11 rfl rfl)
theorem dL_law_168 : decode cL_law 168 = .ok (.iconst 1, 1) := dk_4 (dk_at dksL_law_3 12 rfl rfl)
theorem dL_law_169 : decode cL_law 169 = .ok (.iadd, 1) := dk_96 (dk_at dksL_law_3 13 rfl rfl)
theorem dL_law_170 : decode cL_law 170 = .ok (.iaload, 1) := dk_46 (dk_at dksL_law_3 14 rfl rfl)
theorem dL_law_171 : decode cL_law 171 = .ok (.invokevirtual 17, 3) := dk_182 0 17 (dk_at dksL_law_3 15 rfl rfl)
theorem dL_law_174 : decode cL_law 174 = .ok (.if_icmp .eq 654, 3) := dk_159 2 142 (dk_at dksL_law_3 18 rfl rfl)
theorem dL_law_177 : decode cL_law 177 = .ok (.iconst 0, 1) := dk_3 (dk_at dksL_law_3 21 rfl rfl)
theorem dL_law_178 : decode cL_law 178 = .ok (.ireturn, 1) := dk_172 (dk_at dksL_law_3 22 rfl rfl)
theorem dL_law_179 : decode cL_law 179 = .ok (.aload_n 1, 1) := dk_43 (dk_at dksL_law_3 23 rfl rfl)
theorem dL_law_180 : decode cL_law 180 = .ok (.invokevirtual 18, 3) := dk_182 0 18 (dk_at dksL_law_4 0 rfl rfl)
theorem dL_law_183 : decode cL_law 183 = .ok (.aload_n 2, 1) := dk_44 (dk_at dksL_law_4 3 rfl rfl)
theorem dL_law_184 : decode cL_law 184 = .ok (.invokevirtual 22, 3) := dk_182 0 22 (dk_at dksL_law_4 4 rfl rfl)
theorem dL_law_187 : decode cL_law 187 = .ok (.if_icmp .eq 641, 3) := dk_159 2 129 (dk_at dksL_law_4 7 rfl rfl)
theorem dL_law_190 : decode cL_law 190 = .ok (.iconst 0, 1) := dk_3 (dk_at dksL_law_4 10 rfl rfl)
theorem dL_law_191 : decode cL_law 191 = .ok (.ireturn, 1) := dk_172 (dk_at dksL_law_4 11 rfl rfl)
theorem dL_law_192 : decode cL_law 192 = .ok (.aload_n 1, 1) := dk_43 (dk_at dksL_law_4 12 rfl rfl)
theorem dL_law_193 : decode cL_law 193 = .ok (.invokevirtual 23, 3) := dk_182 0 23 (dk_at dksL_law_4 13 rfl rfl)
theorem dL_law_196 : decode cL_law 196 = .ok (.aload_n 2, 1) := dk_44 (dk_at dksL_law_4 16 rfl rfl)
theorem dL_law_197 : decode cL_law 197 = .ok (.invokevirtual 26, 3) := dk_182 0 26 (dk_at dksL_law_4 17 rfl rfl)
theorem dL_law_200 : decode cL_law 200 = .ok (.if_icmp .eq 628, 3) := dk_159 2 116 (dk_at dksL_law_4 20 rfl rfl)
theorem dL_law_203 : decode cL_law 203 = .ok (.iconst 0, 1) := dk_3 (dk_at dksL_law_4 23 rfl rfl)
theorem dL_law_204 : decode cL_law 204 = .ok (.ireturn, 1) := dk_172 (dk_at dksL_law_5 0 rfl rfl)
theorem dL_law_205 : decode cL_law 205 = .ok (.aload_n 1, 1) := dk_43 (dk_at dksL_law_5 1 rfl rfl)
theorem dL_law_206 : decode cL_law 206 = .ok (.invokevirtual 27, 3) := dk_182 0 27 (dk_at dksL_law_5 2 rfl rfl)
theorem dL_law_209 : decode cL_law 209 = .ok (.aload_n 2, 1) := dk_44 (dk_at dksL_law_5 5 rfl rfl)
theorem dL_law_210 : decode cL_law 210 = .ok (.invokevirtual 30, 3) := dk_182 0 30 (dk_at dksL_law_5 6 rfl rfl)
theorem dL_law_213 : decode cL_law 213 = .ok (.if_icmp .eq 615, 3) := dk_159 2 103 (dk_at dksL_law_5 9 rfl rfl)
theorem dL_law_216 : decode cL_law 216 = .ok (.iconst 0, 1) := dk_3 (dk_at dksL_law_5 12 rfl rfl)
theorem dL_law_217 : decode cL_law 217 = .ok (.ireturn, 1) := dk_172 (dk_at dksL_law_5 13 rfl rfl)
theorem dL_law_218 : decode cL_law 218 = .ok (.aload_n 1, 1) := dk_43 (dk_at dksL_law_5 14 rfl rfl)
theorem dL_law_219 : decode cL_law 219 = .ok (.aload_n 0, 1) := dk_42 (dk_at dksL_law_5 15 rfl rfl)
theorem dL_law_220 : decode cL_law 220 = .ok (.iload_n 3, 1) := dk_29 (dk_at dksL_law_5 16 rfl rfl)
theorem dL_law_221 : decode cL_law 221 = .ok (.iconst 1, 1) := dk_4 (dk_at dksL_law_5 17 rfl rfl)
theorem dL_law_222 : decode cL_law 222 = .ok (.iadd, 1) := dk_96 (dk_at dksL_law_5 18 rfl rfl)
theorem dL_law_223 : decode cL_law 223 = .ok (.iaload, 1) := dk_46 (dk_at dksL_law_5 19 rfl rfl)
theorem dL_law_224 : decode cL_law 224 = .ok (.aload_n 0, 1) := dk_42 (dk_at dksL_law_5 20 rfl rfl)
theorem dL_law_225 : decode cL_law 225 = .ok (.iload_n 3, 1) := dk_29 (dk_at dksL_law_5 21 rfl rfl)
theorem dL_law_226 : decode cL_law 226 = .ok (.iconst 2, 1) := dk_5 (dk_at dksL_law_5 22 rfl rfl)
theorem dL_law_227 : decode cL_law 227 = .ok (.iadd, 1) := dk_96 (dk_at dksL_law_5 23 rfl rfl)
theorem dL_law_228 : decode cL_law 228 = .ok (.iaload, 1) := dk_46 (dk_at dksL_law_6 0 rfl rfl)
theorem dL_law_229 : decode cL_law 229 = .ok (.invokevirtual 31, 3) := dk_182 0 31 (dk_at dksL_law_6 1 rfl rfl)
theorem dL_law_232 : decode cL_law 232 = .ok (.aload_n 2, 1) := dk_44 (dk_at dksL_law_6 4 rfl rfl)
theorem dL_law_233 : decode cL_law 233 = .ok (.aload_n 0, 1) := dk_42 (dk_at dksL_law_6 5 rfl rfl)
theorem dL_law_234 : decode cL_law 234 = .ok (.iload_n 3, 1) := dk_29 (dk_at dksL_law_6 6 rfl rfl)
theorem dL_law_235 : decode cL_law 235 = .ok (.iconst 1, 1) := dk_4 (dk_at dksL_law_6 7 rfl rfl)
theorem dL_law_236 : decode cL_law 236 = .ok (.iadd, 1) := dk_96 (dk_at dksL_law_6 8 rfl rfl)
theorem dL_law_237 : decode cL_law 237 = .ok (.iaload, 1) := dk_46 (dk_at dksL_law_6 9 rfl rfl)
theorem dL_law_238 : decode cL_law 238 = .ok (.aload_n 0, 1) := dk_42 (dk_at dksL_law_6 10 rfl rfl)
theorem dL_law_239 : decode cL_law 239 = .ok (.iload_n 3, 1) := dk_29 (dk_at dksL_law_6 11 rfl rfl)
theorem dL_law_240 : decode cL_law 240 = .ok (.iconst 2, 1) := dk_5 (dk_at dksL_law_6 12 rfl rfl)
theorem dL_law_241 : decode cL_law 241 = .ok (.iadd, 1) := dk_96 (dk_at dksL_law_6 13 rfl rfl)
theorem dL_law_242 : decode cL_law 242 = .ok (.iaload, 1) := dk_46 (dk_at dksL_law_6 14 rfl rfl)
theorem dL_law_243 : decode cL_law 243 = .ok (.invokevirtual 35, 3) := dk_182 0 35 (dk_at dksL_law_6 15 rfl rfl)
theorem dL_law_246 : decode cL_law 246 = .ok (.if_icmp .eq 582, 3) := dk_159 2 70 (dk_at dksL_law_6 18 rfl rfl)
theorem dL_law_249 : decode cL_law 249 = .ok (.iconst 0, 1) := dk_3 (dk_at dksL_law_6 21 rfl rfl)
theorem dL_law_250 : decode cL_law 250 = .ok (.ireturn, 1) := dk_172 (dk_at dksL_law_6 22 rfl rfl)
theorem dL_law_251 : decode cL_law 251 = .ok (.aload_n 1, 1) := dk_43 (dk_at dksL_law_6 23 rfl rfl)
theorem dL_law_252 : decode cL_law 252 = .ok (.aload_n 0, 1) := dk_42 (dk_at dksL_law_7 0 rfl rfl)
theorem dL_law_253 : decode cL_law 253 = .ok (.iload_n 3, 1) := dk_29 (dk_at dksL_law_7 1 rfl rfl)
theorem dL_law_254 : decode cL_law 254 = .ok (.iconst 1, 1) := dk_4 (dk_at dksL_law_7 2 rfl rfl)
theorem dL_law_255 : decode cL_law 255 = .ok (.iadd, 1) := dk_96 (dk_at dksL_law_7 3 rfl rfl)
theorem dL_law_256 : decode cL_law 256 = .ok (.iaload, 1) := dk_46 (dk_at dksL_law_7 4 rfl rfl)
theorem dL_law_257 : decode cL_law 257 = .ok (.aload_n 0, 1) := dk_42 (dk_at dksL_law_7 5 rfl rfl)
theorem dL_law_258 : decode cL_law 258 = .ok (.iload_n 3, 1) := dk_29 (dk_at dksL_law_7 6 rfl rfl)
theorem dL_law_259 : decode cL_law 259 = .ok (.iconst 2, 1) := dk_5 (dk_at dksL_law_7 7 rfl rfl)
theorem dL_law_260 : decode cL_law 260 = .ok (.iadd, 1) := dk_96 (dk_at dksL_law_7 8 rfl rfl)
theorem dL_law_261 : decode cL_law 261 = .ok (.iaload, 1) := dk_46 (dk_at dksL_law_7 9 rfl rfl)
theorem dL_law_262 : decode cL_law 262 = .ok (.invokevirtual 36, 3) := dk_182 0 36 (dk_at dksL_law_7 10 rfl rfl)
theorem dL_law_265 : decode cL_law 265 = .ok (.aload_n 2, 1) := dk_44 (dk_at dksL_law_7 13 rfl rfl)
theorem dL_law_266 : decode cL_law 266 = .ok (.aload_n 0, 1) := dk_42 (dk_at dksL_law_7 14 rfl rfl)
theorem dL_law_267 : decode cL_law 267 = .ok (.iload_n 3, 1) := dk_29 (dk_at dksL_law_7 15 rfl rfl)
theorem dL_law_268 : decode cL_law 268 = .ok (.iconst 1, 1) := dk_4 (dk_at dksL_law_7 16 rfl rfl)
theorem dL_law_269 : decode cL_law 269 = .ok (.iadd, 1) := dk_96 (dk_at dksL_law_7 17 rfl rfl)
theorem dL_law_270 : decode cL_law 270 = .ok (.iaload, 1) := dk_46 (dk_at dksL_law_7 18 rfl rfl)
theorem dL_law_271 : decode cL_law 271 = .ok (.aload_n 0, 1) := dk_42 (dk_at dksL_law_7 19 rfl rfl)
theorem dL_law_272 : decode cL_law 272 = .ok (.iload_n 3, 1) := dk_29 (dk_at dksL_law_7 20 rfl rfl)
theorem dL_law_273 : decode cL_law 273 = .ok (.iconst 2, 1) := dk_5 (dk_at dksL_law_7 21 rfl rfl)
theorem dL_law_274 : decode cL_law 274 = .ok (.iadd, 1) := dk_96 (dk_at dksL_law_7 22 rfl rfl)
theorem dL_law_275 : decode cL_law 275 = .ok (.iaload, 1) := dk_46 (dk_at dksL_law_7 23 rfl rfl)
theorem dL_law_276 : decode cL_law 276 = .ok (.invokevirtual 39, 3) := dk_182 0 39 (dk_at dksL_law_8 0 rfl rfl)
theorem dL_law_279 : decode cL_law 279 = .ok (.if_icmp .eq 549, 3) := dk_159 2 37 (dk_at dksL_law_8 3 rfl rfl)
theorem dL_law_282 : decode cL_law 282 = .ok (.iconst 0, 1) := dk_3 (dk_at dksL_law_8 6 rfl rfl)
theorem dL_law_283 : decode cL_law 283 = .ok (.ireturn, 1) := dk_172 (dk_at dksL_law_8 7 rfl rfl)
theorem dL_law_284 : decode cL_law 284 = .ok (.aload_n 1, 1) := dk_43 (dk_at dksL_law_8 8 rfl rfl)
theorem dL_law_285 : decode cL_law 285 = .ok (.aload_n 0, 1) := dk_42 (dk_at dksL_law_8 9 rfl rfl)
theorem dL_law_286 : decode cL_law 286 = .ok (.iload_n 3, 1) := dk_29 (dk_at dksL_law_8 10 rfl rfl)
theorem dL_law_287 : decode cL_law 287 = .ok (.iconst 1, 1) := dk_4 (dk_at dksL_law_8 11 rfl rfl)
theorem dL_law_288 : decode cL_law 288 = .ok (.iadd, 1) := dk_96 (dk_at dksL_law_8 12 rfl rfl)
theorem dL_law_289 : decode cL_law 289 = .ok (.iaload, 1) := dk_46 (dk_at dksL_law_8 13 rfl rfl)
theorem dL_law_290 : decode cL_law 290 = .ok (.aload_n 0, 1) := dk_42 (dk_at dksL_law_8 14 rfl rfl)
theorem dL_law_291 : decode cL_law 291 = .ok (.iload_n 3, 1) := dk_29 (dk_at dksL_law_8 15 rfl rfl)
theorem dL_law_292 : decode cL_law 292 = .ok (.iconst 2, 1) := dk_5 (dk_at dksL_law_8 16 rfl rfl)
theorem dL_law_293 : decode cL_law 293 = .ok (.iadd, 1) := dk_96 (dk_at dksL_law_8 17 rfl rfl)
theorem dL_law_294 : decode cL_law 294 = .ok (.iaload, 1) := dk_46 (dk_at dksL_law_8 18 rfl rfl)
theorem dL_law_295 : decode cL_law 295 = .ok (.invokevirtual 40, 3) := dk_182 0 40 (dk_at dksL_law_8 19 rfl rfl)
theorem dL_law_298 : decode cL_law 298 = .ok (.aload_n 2, 1) := dk_44 (dk_at dksL_law_8 22 rfl rfl)
theorem dL_law_299 : decode cL_law 299 = .ok (.aload_n 0, 1) := dk_42 (dk_at dksL_law_8 23 rfl rfl)
theorem dL_law_300 : decode cL_law 300 = .ok (.iload_n 3, 1) := dk_29 (dk_at dksL_law_9 0 rfl rfl)
theorem dL_law_301 : decode cL_law 301 = .ok (.iconst 1, 1) := dk_4 (dk_at dksL_law_9 1 rfl rfl)
theorem dL_law_302 : decode cL_law 302 = .ok (.iadd, 1) := dk_96 (dk_at dksL_law_9 2 rfl rfl)
theorem dL_law_303 : decode cL_law 303 = .ok (.iaload, 1) := dk_46 (dk_at dksL_law_9 3 rfl rfl)
theorem dL_law_304 : decode cL_law 304 = .ok (.aload_n 0, 1) := dk_42 (dk_at dksL_law_9 4 rfl rfl)
theorem dL_law_305 : decode cL_law 305 = .ok (.iload_n 3, 1) := dk_29 (dk_at dksL_law_9 5 rfl rfl)
theorem dL_law_306 : decode cL_law 306 = .ok (.iconst 2, 1) := dk_5 (dk_at dksL_law_9 6 rfl rfl)
theorem dL_law_307 : decode cL_law 307 = .ok (.iadd, 1) := dk_96 (dk_at dksL_law_9 7 rfl rfl)
theorem dL_law_308 : decode cL_law 308 = .ok (.iaload, 1) := dk_46 (dk_at dksL_law_9 8 rfl rfl)
theorem dL_law_309 : decode cL_law 309 = .ok (.invokevirtual 43, 3) := dk_182 0 43 (dk_at dksL_law_9 9 rfl rfl)
theorem dL_law_312 : decode cL_law 312 = .ok (.if_icmp .eq 516, 3) := dk_159 2 4 (dk_at dksL_law_9 12 rfl rfl)
theorem dL_law_315 : decode cL_law 315 = .ok (.iconst 0, 1) := dk_3 (dk_at dksL_law_9 15 rfl rfl)
theorem dL_law_316 : decode cL_law 316 = .ok (.ireturn, 1) := dk_172 (dk_at dksL_law_9 16 rfl rfl)
theorem dL_law_317 : decode cL_law 317 = .ok (.aload_n 1, 1) := dk_43 (dk_at dksL_law_9 17 rfl rfl)
theorem dL_law_318 : decode cL_law 318 = .ok (.aload_n 0, 1) := dk_42 (dk_at dksL_law_9 18 rfl rfl)
theorem dL_law_319 : decode cL_law 319 = .ok (.iload_n 3, 1) := dk_29 (dk_at dksL_law_9 19 rfl rfl)
theorem dL_law_320 : decode cL_law 320 = .ok (.iconst 1, 1) := dk_4 (dk_at dksL_law_9 20 rfl rfl)
theorem dL_law_321 : decode cL_law 321 = .ok (.iadd, 1) := dk_96 (dk_at dksL_law_9 21 rfl rfl)
theorem dL_law_322 : decode cL_law 322 = .ok (.iaload, 1) := dk_46 (dk_at dksL_law_9 22 rfl rfl)
theorem dL_law_323 : decode cL_law 323 = .ok (.aload_n 0, 1) := dk_42 (dk_at dksL_law_9 23 rfl rfl)
theorem dL_law_324 : decode cL_law 324 = .ok (.iload_n 3, 1) := dk_29 (dk_at dksL_law_10 0 rfl rfl)
theorem dL_law_325 : decode cL_law 325 = .ok (.iconst 2, 1) := dk_5 (dk_at dksL_law_10 1 rfl rfl)
theorem dL_law_326 : decode cL_law 326 = .ok (.iadd, 1) := dk_96 (dk_at dksL_law_10 2 rfl rfl)
theorem dL_law_327 : decode cL_law 327 = .ok (.iaload, 1) := dk_46 (dk_at dksL_law_10 3 rfl rfl)
theorem dL_law_328 : decode cL_law 328 = .ok (.invokevirtual 44, 3) := dk_182 0 44 (dk_at dksL_law_10 4 rfl rfl)
theorem dL_law_331 : decode cL_law 331 = .ok (.aload_n 2, 1) := dk_44 (dk_at dksL_law_10 7 rfl rfl)
theorem dL_law_332 : decode cL_law 332 = .ok (.aload_n 0, 1) := dk_42 (dk_at dksL_law_10 8 rfl rfl)
theorem dL_law_333 : decode cL_law 333 = .ok (.iload_n 3, 1) := dk_29 (dk_at dksL_law_10 9 rfl rfl)
theorem dL_law_334 : decode cL_law 334 = .ok (.iconst 1, 1) := dk_4 (dk_at dksL_law_10 10 rfl rfl)
theorem dL_law_335 : decode cL_law 335 = .ok (.iadd, 1) := dk_96 (dk_at dksL_law_10 11 rfl rfl)
theorem dL_law_336 : decode cL_law 336 = .ok (.iaload, 1) := dk_46 (dk_at dksL_law_10 12 rfl rfl)
theorem dL_law_337 : decode cL_law 337 = .ok (.aload_n 0, 1) := dk_42 (dk_at dksL_law_10 13 rfl rfl)
theorem dL_law_338 : decode cL_law 338 = .ok (.iload_n 3, 1) := dk_29 (dk_at dksL_law_10 14 rfl rfl)
theorem dL_law_339 : decode cL_law 339 = .ok (.iconst 2, 1) := dk_5 (dk_at dksL_law_10 15 rfl rfl)
theorem dL_law_340 : decode cL_law 340 = .ok (.iadd, 1) := dk_96 (dk_at dksL_law_10 16 rfl rfl)
theorem dL_law_341 : decode cL_law 341 = .ok (.iaload, 1) := dk_46 (dk_at dksL_law_10 17 rfl rfl)
theorem dL_law_342 : decode cL_law 342 = .ok (.invokevirtual 47, 3) := dk_182 0 47 (dk_at dksL_law_10 18 rfl rfl)
theorem dL_law_345 : decode cL_law 345 = .ok (.if_icmp .eq 483, 3) := dk_159 1 227 (dk_at dksL_law_10 21 rfl rfl)
theorem dL_law_348 : decode cL_law 348 = .ok (.iconst 0, 1) := dk_3 (dk_at dksL_law_11 0 rfl rfl)
theorem dL_law_349 : decode cL_law 349 = .ok (.ireturn, 1) := dk_172 (dk_at dksL_law_11 1 rfl rfl)
theorem dL_law_350 : decode cL_law 350 = .ok (.aload_n 1, 1) := dk_43 (dk_at dksL_law_11 2 rfl rfl)
theorem dL_law_351 : decode cL_law 351 = .ok (.aload_n 0, 1) := dk_42 (dk_at dksL_law_11 3 rfl rfl)
theorem dL_law_352 : decode cL_law 352 = .ok (.iload_n 3, 1) := dk_29 (dk_at dksL_law_11 4 rfl rfl)
theorem dL_law_353 : decode cL_law 353 = .ok (.iconst 1, 1) := dk_4 (dk_at dksL_law_11 5 rfl rfl)
theorem dL_law_354 : decode cL_law 354 = .ok (.iadd, 1) := dk_96 (dk_at dksL_law_11 6 rfl rfl)
theorem dL_law_355 : decode cL_law 355 = .ok (.iaload, 1) := dk_46 (dk_at dksL_law_11 7 rfl rfl)
theorem dL_law_356 : decode cL_law 356 = .ok (.aload_n 0, 1) := dk_42 (dk_at dksL_law_11 8 rfl rfl)
theorem dL_law_357 : decode cL_law 357 = .ok (.iload_n 3, 1) := dk_29 (dk_at dksL_law_11 9 rfl rfl)
theorem dL_law_358 : decode cL_law 358 = .ok (.iconst 2, 1) := dk_5 (dk_at dksL_law_11 10 rfl rfl)
theorem dL_law_359 : decode cL_law 359 = .ok (.iadd, 1) := dk_96 (dk_at dksL_law_11 11 rfl rfl)
theorem dL_law_360 : decode cL_law 360 = .ok (.iaload, 1) := dk_46 (dk_at dksL_law_11 12 rfl rfl)
theorem dL_law_361 : decode cL_law 361 = .ok (.invokevirtual 48, 3) := dk_182 0 48 (dk_at dksL_law_11 13 rfl rfl)
theorem dL_law_364 : decode cL_law 364 = .ok (.aload_n 2, 1) := dk_44 (dk_at dksL_law_11 16 rfl rfl)
theorem dL_law_365 : decode cL_law 365 = .ok (.aload_n 0, 1) := dk_42 (dk_at dksL_law_11 17 rfl rfl)
theorem dL_law_366 : decode cL_law 366 = .ok (.iload_n 3, 1) := dk_29 (dk_at dksL_law_11 18 rfl rfl)
theorem dL_law_367 : decode cL_law 367 = .ok (.iconst 1, 1) := dk_4 (dk_at dksL_law_11 19 rfl rfl)
theorem dL_law_368 : decode cL_law 368 = .ok (.iadd, 1) := dk_96 (dk_at dksL_law_11 20 rfl rfl)
theorem dL_law_369 : decode cL_law 369 = .ok (.iaload, 1) := dk_46 (dk_at dksL_law_11 21 rfl rfl)
theorem dL_law_370 : decode cL_law 370 = .ok (.aload_n 0, 1) := dk_42 (dk_at dksL_law_11 22 rfl rfl)
theorem dL_law_371 : decode cL_law 371 = .ok (.iload_n 3, 1) := dk_29 (dk_at dksL_law_11 23 rfl rfl)
theorem dL_law_372 : decode cL_law 372 = .ok (.iconst 2, 1) := dk_5 (dk_at dksL_law_12 0 rfl rfl)
theorem dL_law_373 : decode cL_law 373 = .ok (.iadd, 1) := dk_96 (dk_at dksL_law_12 1 rfl rfl)
theorem dL_law_374 : decode cL_law 374 = .ok (.iaload, 1) := dk_46 (dk_at dksL_law_12 2 rfl rfl)
theorem dL_law_375 : decode cL_law 375 = .ok (.invokevirtual 51, 3) := dk_182 0 51 (dk_at dksL_law_12 3 rfl rfl)
theorem dL_law_378 : decode cL_law 378 = .ok (.if_icmp .eq 450, 3) := dk_159 1 194 (dk_at dksL_law_12 6 rfl rfl)
theorem dL_law_381 : decode cL_law 381 = .ok (.iconst 0, 1) := dk_3 (dk_at dksL_law_12 9 rfl rfl)
theorem dL_law_382 : decode cL_law 382 = .ok (.ireturn, 1) := dk_172 (dk_at dksL_law_12 10 rfl rfl)
theorem dL_law_383 : decode cL_law 383 = .ok (.aload_n 1, 1) := dk_43 (dk_at dksL_law_12 11 rfl rfl)
theorem dL_law_384 : decode cL_law 384 = .ok (.invokevirtual 52, 3) := dk_182 0 52 (dk_at dksL_law_12 12 rfl rfl)
theorem dL_law_387 : decode cL_law 387 = .ok (.aload_n 2, 1) := dk_44 (dk_at dksL_law_12 15 rfl rfl)
theorem dL_law_388 : decode cL_law 388 = .ok (.invokevirtual 55, 3) := dk_182 0 55 (dk_at dksL_law_12 16 rfl rfl)
theorem dL_law_391 : decode cL_law 391 = .ok (.if_icmp .eq 437, 3) := dk_159 1 181 (dk_at dksL_law_12 19 rfl rfl)
theorem dL_law_394 : decode cL_law 394 = .ok (.iconst 0, 1) := dk_3 (dk_at dksL_law_12 22 rfl rfl)
theorem dL_law_395 : decode cL_law 395 = .ok (.ireturn, 1) := dk_172 (dk_at dksL_law_12 23 rfl rfl)
theorem dL_law_396 : decode cL_law 396 = .ok (.aload_n 1, 1) := dk_43 (dk_at dksL_law_13 0 rfl rfl)
theorem dL_law_397 : decode cL_law 397 = .ok (.aload_n 0, 1) := dk_42 (dk_at dksL_law_13 1 rfl rfl)
theorem dL_law_398 : decode cL_law 398 = .ok (.iload_n 3, 1) := dk_29 (dk_at dksL_law_13 2 rfl rfl)
theorem dL_law_399 : decode cL_law 399 = .ok (.iconst 1, 1) := dk_4 (dk_at dksL_law_13 3 rfl rfl)
theorem dL_law_400 : decode cL_law 400 = .ok (.iadd, 1) := dk_96 (dk_at dksL_law_13 4 rfl rfl)
theorem dL_law_401 : decode cL_law 401 = .ok (.iaload, 1) := dk_46 (dk_at dksL_law_13 5 rfl rfl)
theorem dL_law_402 : decode cL_law 402 = .ok (.aload_n 0, 1) := dk_42 (dk_at dksL_law_13 6 rfl rfl)
theorem dL_law_403 : decode cL_law 403 = .ok (.iload_n 3, 1) := dk_29 (dk_at dksL_law_13 7 rfl rfl)
theorem dL_law_404 : decode cL_law 404 = .ok (.iconst 2, 1) := dk_5 (dk_at dksL_law_13 8 rfl rfl)
theorem dL_law_405 : decode cL_law 405 = .ok (.iadd, 1) := dk_96 (dk_at dksL_law_13 9 rfl rfl)
theorem dL_law_406 : decode cL_law 406 = .ok (.iaload, 1) := dk_46 (dk_at dksL_law_13 10 rfl rfl)
theorem dL_law_407 : decode cL_law 407 = .ok (.invokevirtual 56, 3) := dk_182 0 56 (dk_at dksL_law_13 11 rfl rfl)
theorem dL_law_410 : decode cL_law 410 = .ok (.aload_n 2, 1) := dk_44 (dk_at dksL_law_13 14 rfl rfl)
theorem dL_law_411 : decode cL_law 411 = .ok (.aload_n 0, 1) := dk_42 (dk_at dksL_law_13 15 rfl rfl)
theorem dL_law_412 : decode cL_law 412 = .ok (.iload_n 3, 1) := dk_29 (dk_at dksL_law_13 16 rfl rfl)
theorem dL_law_413 : decode cL_law 413 = .ok (.iconst 1, 1) := dk_4 (dk_at dksL_law_13 17 rfl rfl)
theorem dL_law_414 : decode cL_law 414 = .ok (.iadd, 1) := dk_96 (dk_at dksL_law_13 18 rfl rfl)
theorem dL_law_415 : decode cL_law 415 = .ok (.iaload, 1) := dk_46 (dk_at dksL_law_13 19 rfl rfl)
theorem dL_law_416 : decode cL_law 416 = .ok (.aload_n 0, 1) := dk_42 (dk_at dksL_law_13 20 rfl rfl)
theorem dL_law_417 : decode cL_law 417 = .ok (.iload_n 3, 1) := dk_29 (dk_at dksL_law_13 21 rfl rfl)
theorem dL_law_418 : decode cL_law 418 = .ok (.iconst 2, 1) := dk_5 (dk_at dksL_law_13 22 rfl rfl)
theorem dL_law_419 : decode cL_law 419 = .ok (.iadd, 1) := dk_96 (dk_at dksL_law_13 23 rfl rfl)
theorem dL_law_420 : decode cL_law 420 = .ok (.iaload, 1) := dk_46 (dk_at dksL_law_14 0 rfl rfl)
theorem dL_law_421 : decode cL_law 421 = .ok (.invokevirtual 59, 3) := dk_182 0 59 (dk_at dksL_law_14 1 rfl rfl)
theorem dL_law_424 : decode cL_law 424 = .ok (.if_icmp .eq 404, 3) := dk_159 1 148 (dk_at dksL_law_14 4 rfl rfl)
theorem dL_law_427 : decode cL_law 427 = .ok (.iconst 0, 1) := dk_3 (dk_at dksL_law_14 7 rfl rfl)
theorem dL_law_428 : decode cL_law 428 = .ok (.ireturn, 1) := dk_172 (dk_at dksL_law_14 8 rfl rfl)
theorem dL_law_429 : decode cL_law 429 = .ok (.aload_n 1, 1) := dk_43 (dk_at dksL_law_14 9 rfl rfl)
theorem dL_law_430 : decode cL_law 430 = .ok (.invokevirtual 60, 3) := dk_182 0 60 (dk_at dksL_law_14 10 rfl rfl)
theorem dL_law_433 : decode cL_law 433 = .ok (.aload_n 2, 1) := dk_44 (dk_at dksL_law_14 13 rfl rfl)
theorem dL_law_434 : decode cL_law 434 = .ok (.invokevirtual 63, 3) := dk_182 0 63 (dk_at dksL_law_14 14 rfl rfl)
theorem dL_law_437 : decode cL_law 437 = .ok (.if_icmp .eq 391, 3) := dk_159 1 135 (dk_at dksL_law_14 17 rfl rfl)
theorem dL_law_440 : decode cL_law 440 = .ok (.iconst 0, 1) := dk_3 (dk_at dksL_law_14 20 rfl rfl)
theorem dL_law_441 : decode cL_law 441 = .ok (.ireturn, 1) := dk_172 (dk_at dksL_law_14 21 rfl rfl)
theorem dL_law_442 : decode cL_law 442 = .ok (.aload_n 1, 1) := dk_43 (dk_at dksL_law_14 22 rfl rfl)
theorem dL_law_443 : decode cL_law 443 = .ok (.invokevirtual 64, 3) := dk_182 0 64 (dk_at dksL_law_15 0 rfl rfl)
theorem dL_law_446 : decode cL_law 446 = .ok (.aload_n 2, 1) := dk_44 (dk_at dksL_law_15 3 rfl rfl)
theorem dL_law_447 : decode cL_law 447 = .ok (.invokevirtual 67, 3) := dk_182 0 67 (dk_at dksL_law_15 4 rfl rfl)
theorem dL_law_450 : decode cL_law 450 = .ok (.if_icmp .eq 378, 3) := dk_159 1 122 (dk_at dksL_law_15 7 rfl rfl)
theorem dL_law_453 : decode cL_law 453 = .ok (.iconst 0, 1) := dk_3 (dk_at dksL_law_15 10 rfl rfl)
theorem dL_law_454 : decode cL_law 454 = .ok (.ireturn, 1) := dk_172 (dk_at dksL_law_15 11 rfl rfl)
theorem dL_law_455 : decode cL_law 455 = .ok (.aload_n 1, 1) := dk_43 (dk_at dksL_law_15 12 rfl rfl)
theorem dL_law_456 : decode cL_law 456 = .ok (.aload_n 0, 1) := dk_42 (dk_at dksL_law_15 13 rfl rfl)
theorem dL_law_457 : decode cL_law 457 = .ok (.iload_n 3, 1) := dk_29 (dk_at dksL_law_15 14 rfl rfl)
theorem dL_law_458 : decode cL_law 458 = .ok (.iconst 1, 1) := dk_4 (dk_at dksL_law_15 15 rfl rfl)
theorem dL_law_459 : decode cL_law 459 = .ok (.iadd, 1) := dk_96 (dk_at dksL_law_15 16 rfl rfl)
theorem dL_law_460 : decode cL_law 460 = .ok (.iaload, 1) := dk_46 (dk_at dksL_law_15 17 rfl rfl)
theorem dL_law_461 : decode cL_law 461 = .ok (.invokevirtual 68, 3) := dk_182 0 68 (dk_at dksL_law_15 18 rfl rfl)
theorem dL_law_464 : decode cL_law 464 = .ok (.aload_n 2, 1) := dk_44 (dk_at dksL_law_15 21 rfl rfl)
theorem dL_law_465 : decode cL_law 465 = .ok (.aload_n 0, 1) := dk_42 (dk_at dksL_law_15 22 rfl rfl)
theorem dL_law_466 : decode cL_law 466 = .ok (.iload_n 3, 1) := dk_29 (dk_at dksL_law_15 23 rfl rfl)
theorem dL_law_467 : decode cL_law 467 = .ok (.iconst 1, 1) := dk_4 (dk_at dksL_law_16 0 rfl rfl)
theorem dL_law_468 : decode cL_law 468 = .ok (.iadd, 1) := dk_96 (dk_at dksL_law_16 1 rfl rfl)
theorem dL_law_469 : decode cL_law 469 = .ok (.iaload, 1) := dk_46 (dk_at dksL_law_16 2 rfl rfl)
theorem dL_law_470 : decode cL_law 470 = .ok (.invokevirtual 71, 3) := dk_182 0 71 (dk_at dksL_law_16 3 rfl rfl)
theorem dL_law_473 : decode cL_law 473 = .ok (.if_icmp .eq 355, 3) := dk_159 1 99 (dk_at dksL_law_16 6 rfl rfl)
theorem dL_law_476 : decode cL_law 476 = .ok (.iconst 0, 1) := dk_3 (dk_at dksL_law_16 9 rfl rfl)
theorem dL_law_477 : decode cL_law 477 = .ok (.ireturn, 1) := dk_172 (dk_at dksL_law_16 10 rfl rfl)
theorem dL_law_478 : decode cL_law 478 = .ok (.aload_n 1, 1) := dk_43 (dk_at dksL_law_16 11 rfl rfl)
theorem dL_law_479 : decode cL_law 479 = .ok (.aload_n 0, 1) := dk_42 (dk_at dksL_law_16 12 rfl rfl)
theorem dL_law_480 : decode cL_law 480 = .ok (.iload_n 3, 1) := dk_29 (dk_at dksL_law_16 13 rfl rfl)
theorem dL_law_481 : decode cL_law 481 = .ok (.iconst 1, 1) := dk_4 (dk_at dksL_law_16 14 rfl rfl)
theorem dL_law_482 : decode cL_law 482 = .ok (.iadd, 1) := dk_96 (dk_at dksL_law_16 15 rfl rfl)
theorem dL_law_483 : decode cL_law 483 = .ok (.iaload, 1) := dk_46 (dk_at dksL_law_16 16 rfl rfl)
theorem dL_law_484 : decode cL_law 484 = .ok (.invokevirtual 72, 3) := dk_182 0 72 (dk_at dksL_law_16 17 rfl rfl)
theorem dL_law_487 : decode cL_law 487 = .ok (.aload_n 2, 1) := dk_44 (dk_at dksL_law_16 20 rfl rfl)
theorem dL_law_488 : decode cL_law 488 = .ok (.aload_n 0, 1) := dk_42 (dk_at dksL_law_16 21 rfl rfl)
theorem dL_law_489 : decode cL_law 489 = .ok (.iload_n 3, 1) := dk_29 (dk_at dksL_law_16 22 rfl rfl)
theorem dL_law_490 : decode cL_law 490 = .ok (.iconst 1, 1) := dk_4 (dk_at dksL_law_16 23 rfl rfl)
theorem dL_law_491 : decode cL_law 491 = .ok (.iadd, 1) := dk_96 (dk_at dksL_law_17 0 rfl rfl)
theorem dL_law_492 : decode cL_law 492 = .ok (.iaload, 1) := dk_46 (dk_at dksL_law_17 1 rfl rfl)
theorem dL_law_493 : decode cL_law 493 = .ok (.invokevirtual 75, 3) := dk_182 0 75 (dk_at dksL_law_17 2 rfl rfl)
theorem dL_law_496 : decode cL_law 496 = .ok (.if_icmp .eq 332, 3) := dk_159 1 76 (dk_at dksL_law_17 5 rfl rfl)
theorem dL_law_499 : decode cL_law 499 = .ok (.iconst 0, 1) := dk_3 (dk_at dksL_law_17 8 rfl rfl)
theorem dL_law_500 : decode cL_law 500 = .ok (.ireturn, 1) := dk_172 (dk_at dksL_law_17 9 rfl rfl)
theorem dL_law_501 : decode cL_law 501 = .ok (.aload_n 1, 1) := dk_43 (dk_at dksL_law_17 10 rfl rfl)
theorem dL_law_502 : decode cL_law 502 = .ok (.invokevirtual 76, 3) := dk_182 0 76 (dk_at dksL_law_17 11 rfl rfl)
theorem dL_law_505 : decode cL_law 505 = .ok (.aload_n 2, 1) := dk_44 (dk_at dksL_law_17 14 rfl rfl)
theorem dL_law_506 : decode cL_law 506 = .ok (.invokevirtual 79, 3) := dk_182 0 79 (dk_at dksL_law_17 15 rfl rfl)
theorem dL_law_509 : decode cL_law 509 = .ok (.if_icmp .eq 319, 3) := dk_159 1 63 (dk_at dksL_law_17 18 rfl rfl)
theorem dL_law_512 : decode cL_law 512 = .ok (.iconst 0, 1) := dk_3 (dk_at dksL_law_17 21 rfl rfl)
theorem dL_law_513 : decode cL_law 513 = .ok (.ireturn, 1) := dk_172 (dk_at dksL_law_17 22 rfl rfl)
theorem dL_law_514 : decode cL_law 514 = .ok (.aload_n 1, 1) := dk_43 (dk_at dksL_law_17 23 rfl rfl)
theorem dL_law_515 : decode cL_law 515 = .ok (.aload_n 0, 1) := dk_42 (dk_at dksL_law_18 0 rfl rfl)
theorem dL_law_516 : decode cL_law 516 = .ok (.iload_n 3, 1) := dk_29 (dk_at dksL_law_18 1 rfl rfl)
theorem dL_law_517 : decode cL_law 517 = .ok (.iconst 1, 1) := dk_4 (dk_at dksL_law_18 2 rfl rfl)
theorem dL_law_518 : decode cL_law 518 = .ok (.iadd, 1) := dk_96 (dk_at dksL_law_18 3 rfl rfl)
theorem dL_law_519 : decode cL_law 519 = .ok (.iaload, 1) := dk_46 (dk_at dksL_law_18 4 rfl rfl)
theorem dL_law_520 : decode cL_law 520 = .ok (.invokevirtual 80, 3) := dk_182 0 80 (dk_at dksL_law_18 5 rfl rfl)
theorem dL_law_523 : decode cL_law 523 = .ok (.aload_n 2, 1) := dk_44 (dk_at dksL_law_18 8 rfl rfl)
theorem dL_law_524 : decode cL_law 524 = .ok (.aload_n 0, 1) := dk_42 (dk_at dksL_law_18 9 rfl rfl)
theorem dL_law_525 : decode cL_law 525 = .ok (.iload_n 3, 1) := dk_29 (dk_at dksL_law_18 10 rfl rfl)
theorem dL_law_526 : decode cL_law 526 = .ok (.iconst 1, 1) := dk_4 (dk_at dksL_law_18 11 rfl rfl)
theorem dL_law_527 : decode cL_law 527 = .ok (.iadd, 1) := dk_96 (dk_at dksL_law_18 12 rfl rfl)
theorem dL_law_528 : decode cL_law 528 = .ok (.iaload, 1) := dk_46 (dk_at dksL_law_18 13 rfl rfl)
theorem dL_law_529 : decode cL_law 529 = .ok (.invokevirtual 83, 3) := dk_182 0 83 (dk_at dksL_law_18 14 rfl rfl)
theorem dL_law_532 : decode cL_law 532 = .ok (.if_icmp .eq 296, 3) := dk_159 1 40 (dk_at dksL_law_18 17 rfl rfl)
theorem dL_law_535 : decode cL_law 535 = .ok (.iconst 0, 1) := dk_3 (dk_at dksL_law_18 20 rfl rfl)
theorem dL_law_536 : decode cL_law 536 = .ok (.ireturn, 1) := dk_172 (dk_at dksL_law_18 21 rfl rfl)
theorem dL_law_537 : decode cL_law 537 = .ok (.aload_n 1, 1) := dk_43 (dk_at dksL_law_18 22 rfl rfl)
theorem dL_law_538 : decode cL_law 538 = .ok (.invokevirtual 84, 3) := dk_182 0 84 (dk_at dksL_law_19 0 rfl rfl)
theorem dL_law_541 : decode cL_law 541 = .ok (.aload_n 2, 1) := dk_44 (dk_at dksL_law_19 3 rfl rfl)
theorem dL_law_542 : decode cL_law 542 = .ok (.invokevirtual 87, 3) := dk_182 0 87 (dk_at dksL_law_19 4 rfl rfl)
theorem dL_law_545 : decode cL_law 545 = .ok (.if_icmp .eq 283, 3) := dk_159 1 27 (dk_at dksL_law_19 7 rfl rfl)
theorem dL_law_548 : decode cL_law 548 = .ok (.iconst 0, 1) := dk_3 (dk_at dksL_law_19 10 rfl rfl)
theorem dL_law_549 : decode cL_law 549 = .ok (.ireturn, 1) := dk_172 (dk_at dksL_law_19 11 rfl rfl)
theorem dL_law_550 : decode cL_law 550 = .ok (.aload_n 1, 1) := dk_43 (dk_at dksL_law_19 12 rfl rfl)
theorem dL_law_551 : decode cL_law 551 = .ok (.aload_n 0, 1) := dk_42 (dk_at dksL_law_19 13 rfl rfl)
theorem dL_law_552 : decode cL_law 552 = .ok (.iload_n 3, 1) := dk_29 (dk_at dksL_law_19 14 rfl rfl)
theorem dL_law_553 : decode cL_law 553 = .ok (.iconst 1, 1) := dk_4 (dk_at dksL_law_19 15 rfl rfl)
theorem dL_law_554 : decode cL_law 554 = .ok (.iadd, 1) := dk_96 (dk_at dksL_law_19 16 rfl rfl)
theorem dL_law_555 : decode cL_law 555 = .ok (.iaload, 1) := dk_46 (dk_at dksL_law_19 17 rfl rfl)
theorem dL_law_556 : decode cL_law 556 = .ok (.invokevirtual 88, 3) := dk_182 0 88 (dk_at dksL_law_19 18 rfl rfl)
theorem dL_law_559 : decode cL_law 559 = .ok (.aload_n 2, 1) := dk_44 (dk_at dksL_law_19 21 rfl rfl)
theorem dL_law_560 : decode cL_law 560 = .ok (.aload_n 0, 1) := dk_42 (dk_at dksL_law_19 22 rfl rfl)
theorem dL_law_561 : decode cL_law 561 = .ok (.iload_n 3, 1) := dk_29 (dk_at dksL_law_19 23 rfl rfl)
theorem dL_law_562 : decode cL_law 562 = .ok (.iconst 1, 1) := dk_4 (dk_at dksL_law_20 0 rfl rfl)
theorem dL_law_563 : decode cL_law 563 = .ok (.iadd, 1) := dk_96 (dk_at dksL_law_20 1 rfl rfl)
theorem dL_law_564 : decode cL_law 564 = .ok (.iaload, 1) := dk_46 (dk_at dksL_law_20 2 rfl rfl)
theorem dL_law_565 : decode cL_law 565 = .ok (.invokevirtual 91, 3) := dk_182 0 91 (dk_at dksL_law_20 3 rfl rfl)
theorem dL_law_568 : decode cL_law 568 = .ok (.if_icmp .eq 260, 3) := dk_159 1 4 (dk_at dksL_law_20 6 rfl rfl)
theorem dL_law_571 : decode cL_law 571 = .ok (.iconst 0, 1) := dk_3 (dk_at dksL_law_20 9 rfl rfl)
theorem dL_law_572 : decode cL_law 572 = .ok (.ireturn, 1) := dk_172 (dk_at dksL_law_20 10 rfl rfl)
theorem dL_law_573 : decode cL_law 573 = .ok (.aload_n 1, 1) := dk_43 (dk_at dksL_law_20 11 rfl rfl)
theorem dL_law_574 : decode cL_law 574 = .ok (.aload_n 0, 1) := dk_42 (dk_at dksL_law_20 12 rfl rfl)
theorem dL_law_575 : decode cL_law 575 = .ok (.iload_n 3, 1) := dk_29 (dk_at dksL_law_20 13 rfl rfl)
theorem dL_law_576 : decode cL_law 576 = .ok (.iconst 1, 1) := dk_4 (dk_at dksL_law_20 14 rfl rfl)
theorem dL_law_577 : decode cL_law 577 = .ok (.iadd, 1) := dk_96 (dk_at dksL_law_20 15 rfl rfl)
theorem dL_law_578 : decode cL_law 578 = .ok (.iaload, 1) := dk_46 (dk_at dksL_law_20 16 rfl rfl)
theorem dL_law_579 : decode cL_law 579 = .ok (.invokevirtual 92, 3) := dk_182 0 92 (dk_at dksL_law_20 17 rfl rfl)
theorem dL_law_582 : decode cL_law 582 = .ok (.aload_n 2, 1) := dk_44 (dk_at dksL_law_20 20 rfl rfl)
theorem dL_law_583 : decode cL_law 583 = .ok (.aload_n 0, 1) := dk_42 (dk_at dksL_law_20 21 rfl rfl)
theorem dL_law_584 : decode cL_law 584 = .ok (.iload_n 3, 1) := dk_29 (dk_at dksL_law_20 22 rfl rfl)
theorem dL_law_585 : decode cL_law 585 = .ok (.iconst 1, 1) := dk_4 (dk_at dksL_law_20 23 rfl rfl)
theorem dL_law_586 : decode cL_law 586 = .ok (.iadd, 1) := dk_96 (dk_at dksL_law_21 0 rfl rfl)
theorem dL_law_587 : decode cL_law 587 = .ok (.iaload, 1) := dk_46 (dk_at dksL_law_21 1 rfl rfl)
theorem dL_law_588 : decode cL_law 588 = .ok (.invokevirtual 95, 3) := dk_182 0 95 (dk_at dksL_law_21 2 rfl rfl)
theorem dL_law_591 : decode cL_law 591 = .ok (.if_icmp .eq 237, 3) := dk_159 0 237 (dk_at dksL_law_21 5 rfl rfl)
theorem dL_law_594 : decode cL_law 594 = .ok (.iconst 0, 1) := dk_3 (dk_at dksL_law_21 8 rfl rfl)
theorem dL_law_595 : decode cL_law 595 = .ok (.ireturn, 1) := dk_172 (dk_at dksL_law_21 9 rfl rfl)
theorem dL_law_596 : decode cL_law 596 = .ok (.aload_n 1, 1) := dk_43 (dk_at dksL_law_21 10 rfl rfl)
theorem dL_law_597 : decode cL_law 597 = .ok (.aload_n 0, 1) := dk_42 (dk_at dksL_law_21 11 rfl rfl)
theorem dL_law_598 : decode cL_law 598 = .ok (.iload_n 3, 1) := dk_29 (dk_at dksL_law_21 12 rfl rfl)
theorem dL_law_599 : decode cL_law 599 = .ok (.iconst 1, 1) := dk_4 (dk_at dksL_law_21 13 rfl rfl)
theorem dL_law_600 : decode cL_law 600 = .ok (.iadd, 1) := dk_96 (dk_at dksL_law_21 14 rfl rfl)
theorem dL_law_601 : decode cL_law 601 = .ok (.iaload, 1) := dk_46 (dk_at dksL_law_21 15 rfl rfl)
theorem dL_law_602 : decode cL_law 602 = .ok (.aload_n 0, 1) := dk_42 (dk_at dksL_law_21 16 rfl rfl)
theorem dL_law_603 : decode cL_law 603 = .ok (.iload_n 3, 1) := dk_29 (dk_at dksL_law_21 17 rfl rfl)
theorem dL_law_604 : decode cL_law 604 = .ok (.iconst 2, 1) := dk_5 (dk_at dksL_law_21 18 rfl rfl)
theorem dL_law_605 : decode cL_law 605 = .ok (.iadd, 1) := dk_96 (dk_at dksL_law_21 19 rfl rfl)
theorem dL_law_606 : decode cL_law 606 = .ok (.iaload, 1) := dk_46 (dk_at dksL_law_21 20 rfl rfl)
theorem dL_law_607 : decode cL_law 607 = .ok (.aload_n 0, 1) := dk_42 (dk_at dksL_law_21 21 rfl rfl)
theorem dL_law_608 : decode cL_law 608 = .ok (.iload_n 3, 1) := dk_29 (dk_at dksL_law_21 22 rfl rfl)
theorem dL_law_609 : decode cL_law 609 = .ok (.iconst 3, 1) := dk_6 (dk_at dksL_law_21 23 rfl rfl)
theorem dL_law_610 : decode cL_law 610 = .ok (.iadd, 1) := dk_96 (dk_at dksL_law_22 0 rfl rfl)
theorem dL_law_611 : decode cL_law 611 = .ok (.iaload, 1) := dk_46 (dk_at dksL_law_22 1 rfl rfl)
theorem dL_law_612 : decode cL_law 612 = .ok (.aload_n 0, 1) := dk_42 (dk_at dksL_law_22 2 rfl rfl)
theorem dL_law_613 : decode cL_law 613 = .ok (.iload_n 3, 1) := dk_29 (dk_at dksL_law_22 3 rfl rfl)
theorem dL_law_614 : decode cL_law 614 = .ok (.iconst 4, 1) := dk_7 (dk_at dksL_law_22 4 rfl rfl)
theorem dL_law_615 : decode cL_law 615 = .ok (.iadd, 1) := dk_96 (dk_at dksL_law_22 5 rfl rfl)
theorem dL_law_616 : decode cL_law 616 = .ok (.iaload, 1) := dk_46 (dk_at dksL_law_22 6 rfl rfl)
theorem dL_law_617 : decode cL_law 617 = .ok (.invokevirtual 96, 3) := dk_182 0 96 (dk_at dksL_law_22 7 rfl rfl)
theorem dL_law_620 : decode cL_law 620 = .ok (.aload_n 2, 1) := dk_44 (dk_at dksL_law_22 10 rfl rfl)
theorem dL_law_621 : decode cL_law 621 = .ok (.aload_n 0, 1) := dk_42 (dk_at dksL_law_22 11 rfl rfl)
theorem dL_law_622 : decode cL_law 622 = .ok (.iload_n 3, 1) := dk_29 (dk_at dksL_law_22 12 rfl rfl)
theorem dL_law_623 : decode cL_law 623 = .ok (.iconst 1, 1) := dk_4 (dk_at dksL_law_22 13 rfl rfl)
theorem dL_law_624 : decode cL_law 624 = .ok (.iadd, 1) := dk_96 (dk_at dksL_law_22 14 rfl rfl)
theorem dL_law_625 : decode cL_law 625 = .ok (.iaload, 1) := dk_46 (dk_at dksL_law_22 15 rfl rfl)
theorem dL_law_626 : decode cL_law 626 = .ok (.aload_n 0, 1) := dk_42 (dk_at dksL_law_22 16 rfl rfl)
theorem dL_law_627 : decode cL_law 627 = .ok (.iload_n 3, 1) := dk_29 (dk_at dksL_law_22 17 rfl rfl)
theorem dL_law_628 : decode cL_law 628 = .ok (.iconst 2, 1) := dk_5 (dk_at dksL_law_22 18 rfl rfl)
theorem dL_law_629 : decode cL_law 629 = .ok (.iadd, 1) := dk_96 (dk_at dksL_law_22 19 rfl rfl)
theorem dL_law_630 : decode cL_law 630 = .ok (.iaload, 1) := dk_46 (dk_at dksL_law_22 20 rfl rfl)
theorem dL_law_631 : decode cL_law 631 = .ok (.aload_n 0, 1) := dk_42 (dk_at dksL_law_22 21 rfl rfl)
theorem dL_law_632 : decode cL_law 632 = .ok (.iload_n 3, 1) := dk_29 (dk_at dksL_law_22 22 rfl rfl)
theorem dL_law_633 : decode cL_law 633 = .ok (.iconst 3, 1) := dk_6 (dk_at dksL_law_22 23 rfl rfl)
theorem dL_law_634 : decode cL_law 634 = .ok (.iadd, 1) := dk_96 (dk_at dksL_law_23 0 rfl rfl)
theorem dL_law_635 : decode cL_law 635 = .ok (.iaload, 1) := dk_46 (dk_at dksL_law_23 1 rfl rfl)
theorem dL_law_636 : decode cL_law 636 = .ok (.aload_n 0, 1) := dk_42 (dk_at dksL_law_23 2 rfl rfl)
theorem dL_law_637 : decode cL_law 637 = .ok (.iload_n 3, 1) := dk_29 (dk_at dksL_law_23 3 rfl rfl)
theorem dL_law_638 : decode cL_law 638 = .ok (.iconst 4, 1) := dk_7 (dk_at dksL_law_23 4 rfl rfl)
theorem dL_law_639 : decode cL_law 639 = .ok (.iadd, 1) := dk_96 (dk_at dksL_law_23 5 rfl rfl)
theorem dL_law_640 : decode cL_law 640 = .ok (.iaload, 1) := dk_46 (dk_at dksL_law_23 6 rfl rfl)
theorem dL_law_641 : decode cL_law 641 = .ok (.invokevirtual 100, 3) := dk_182 0 100 (dk_at dksL_law_23 7 rfl rfl)
theorem dL_law_644 : decode cL_law 644 = .ok (.if_icmp .eq 184, 3) := dk_159 0 184 (dk_at dksL_law_23 10 rfl rfl)
theorem dL_law_647 : decode cL_law 647 = .ok (.iconst 0, 1) := dk_3 (dk_at dksL_law_23 13 rfl rfl)
theorem dL_law_648 : decode cL_law 648 = .ok (.ireturn, 1) := dk_172 (dk_at dksL_law_23 14 rfl rfl)
theorem dL_law_649 : decode cL_law 649 = .ok (.aload_n 1, 1) := dk_43 (dk_at dksL_law_23 15 rfl rfl)
theorem dL_law_650 : decode cL_law 650 = .ok (.invokevirtual 101, 3) := dk_182 0 101 (dk_at dksL_law_23 16 rfl rfl)
theorem dL_law_653 : decode cL_law 653 = .ok (.aload_n 2, 1) := dk_44 (dk_at dksL_law_23 19 rfl rfl)
theorem dL_law_654 : decode cL_law 654 = .ok (.invokevirtual 104, 3) := dk_182 0 104 (dk_at dksL_law_23 20 rfl rfl)
theorem dL_law_657 : decode cL_law 657 = .ok (.if_icmp .eq 171, 3) := dk_159 0 171 (dk_at dksL_law_24 0 rfl rfl)
theorem dL_law_660 : decode cL_law 660 = .ok (.iconst 0, 1) := dk_3 (dk_at dksL_law_24 3 rfl rfl)
theorem dL_law_661 : decode cL_law 661 = .ok (.ireturn, 1) := dk_172 (dk_at dksL_law_24 4 rfl rfl)
theorem dL_law_662 : decode cL_law 662 = .ok (.aload_n 1, 1) := dk_43 (dk_at dksL_law_24 5 rfl rfl)
theorem dL_law_663 : decode cL_law 663 = .ok (.aload_n 0, 1) := dk_42 (dk_at dksL_law_24 6 rfl rfl)
theorem dL_law_664 : decode cL_law 664 = .ok (.iload_n 3, 1) := dk_29 (dk_at dksL_law_24 7 rfl rfl)
theorem dL_law_665 : decode cL_law 665 = .ok (.iconst 1, 1) := dk_4 (dk_at dksL_law_24 8 rfl rfl)
theorem dL_law_666 : decode cL_law 666 = .ok (.iadd, 1) := dk_96 (dk_at dksL_law_24 9 rfl rfl)
theorem dL_law_667 : decode cL_law 667 = .ok (.iaload, 1) := dk_46 (dk_at dksL_law_24 10 rfl rfl)
theorem dL_law_668 : decode cL_law 668 = .ok (.invokevirtual 105, 3) := dk_182 0 105 (dk_at dksL_law_24 11 rfl rfl)
theorem dL_law_671 : decode cL_law 671 = .ok (.aload_n 2, 1) := dk_44 (dk_at dksL_law_24 14 rfl rfl)
theorem dL_law_672 : decode cL_law 672 = .ok (.aload_n 0, 1) := dk_42 (dk_at dksL_law_24 15 rfl rfl)
theorem dL_law_673 : decode cL_law 673 = .ok (.iload_n 3, 1) := dk_29 (dk_at dksL_law_24 16 rfl rfl)
theorem dL_law_674 : decode cL_law 674 = .ok (.iconst 1, 1) := dk_4 (dk_at dksL_law_24 17 rfl rfl)
theorem dL_law_675 : decode cL_law 675 = .ok (.iadd, 1) := dk_96 (dk_at dksL_law_24 18 rfl rfl)
theorem dL_law_676 : decode cL_law 676 = .ok (.iaload, 1) := dk_46 (dk_at dksL_law_24 19 rfl rfl)
theorem dL_law_677 : decode cL_law 677 = .ok (.invokevirtual 108, 3) := dk_182 0 108 (dk_at dksL_law_24 20 rfl rfl)
theorem dL_law_680 : decode cL_law 680 = .ok (.if_icmp .eq 148, 3) := dk_159 0 148 (dk_at dksL_law_25 0 rfl rfl)
theorem dL_law_683 : decode cL_law 683 = .ok (.iconst 0, 1) := dk_3 (dk_at dksL_law_25 3 rfl rfl)
theorem dL_law_684 : decode cL_law 684 = .ok (.ireturn, 1) := dk_172 (dk_at dksL_law_25 4 rfl rfl)
theorem dL_law_685 : decode cL_law 685 = .ok (.aload_n 1, 1) := dk_43 (dk_at dksL_law_25 5 rfl rfl)
theorem dL_law_686 : decode cL_law 686 = .ok (.aload_n 0, 1) := dk_42 (dk_at dksL_law_25 6 rfl rfl)
theorem dL_law_687 : decode cL_law 687 = .ok (.iload_n 3, 1) := dk_29 (dk_at dksL_law_25 7 rfl rfl)
theorem dL_law_688 : decode cL_law 688 = .ok (.iconst 1, 1) := dk_4 (dk_at dksL_law_25 8 rfl rfl)
theorem dL_law_689 : decode cL_law 689 = .ok (.iadd, 1) := dk_96 (dk_at dksL_law_25 9 rfl rfl)
theorem dL_law_690 : decode cL_law 690 = .ok (.iaload, 1) := dk_46 (dk_at dksL_law_25 10 rfl rfl)
theorem dL_law_691 : decode cL_law 691 = .ok (.aload_n 0, 1) := dk_42 (dk_at dksL_law_25 11 rfl rfl)
theorem dL_law_692 : decode cL_law 692 = .ok (.iload_n 3, 1) := dk_29 (dk_at dksL_law_25 12 rfl rfl)
theorem dL_law_693 : decode cL_law 693 = .ok (.iconst 2, 1) := dk_5 (dk_at dksL_law_25 13 rfl rfl)
theorem dL_law_694 : decode cL_law 694 = .ok (.iadd, 1) := dk_96 (dk_at dksL_law_25 14 rfl rfl)
theorem dL_law_695 : decode cL_law 695 = .ok (.iaload, 1) := dk_46 (dk_at dksL_law_25 15 rfl rfl)
theorem dL_law_696 : decode cL_law 696 = .ok (.invokevirtual 109, 3) := dk_182 0 109 (dk_at dksL_law_25 16 rfl rfl)
theorem dL_law_699 : decode cL_law 699 = .ok (.aload_n 2, 1) := dk_44 (dk_at dksL_law_25 19 rfl rfl)
theorem dL_law_700 : decode cL_law 700 = .ok (.aload_n 0, 1) := dk_42 (dk_at dksL_law_25 20 rfl rfl)
theorem dL_law_701 : decode cL_law 701 = .ok (.iload_n 3, 1) := dk_29 (dk_at dksL_law_25 21 rfl rfl)
theorem dL_law_702 : decode cL_law 702 = .ok (.iconst 1, 1) := dk_4 (dk_at dksL_law_25 22 rfl rfl)
theorem dL_law_703 : decode cL_law 703 = .ok (.iadd, 1) := dk_96 (dk_at dksL_law_25 23 rfl rfl)
theorem dL_law_704 : decode cL_law 704 = .ok (.iaload, 1) := dk_46 (dk_at dksL_law_26 0 rfl rfl)
theorem dL_law_705 : decode cL_law 705 = .ok (.aload_n 0, 1) := dk_42 (dk_at dksL_law_26 1 rfl rfl)
theorem dL_law_706 : decode cL_law 706 = .ok (.iload_n 3, 1) := dk_29 (dk_at dksL_law_26 2 rfl rfl)
theorem dL_law_707 : decode cL_law 707 = .ok (.iconst 2, 1) := dk_5 (dk_at dksL_law_26 3 rfl rfl)
theorem dL_law_708 : decode cL_law 708 = .ok (.iadd, 1) := dk_96 (dk_at dksL_law_26 4 rfl rfl)
theorem dL_law_709 : decode cL_law 709 = .ok (.iaload, 1) := dk_46 (dk_at dksL_law_26 5 rfl rfl)
theorem dL_law_710 : decode cL_law 710 = .ok (.invokevirtual 112, 3) := dk_182 0 112 (dk_at dksL_law_26 6 rfl rfl)
theorem dL_law_713 : decode cL_law 713 = .ok (.if_icmp .eq 115, 3) := dk_159 0 115 (dk_at dksL_law_26 9 rfl rfl)
theorem dL_law_716 : decode cL_law 716 = .ok (.iconst 0, 1) := dk_3 (dk_at dksL_law_26 12 rfl rfl)
theorem dL_law_717 : decode cL_law 717 = .ok (.ireturn, 1) := dk_172 (dk_at dksL_law_26 13 rfl rfl)
theorem dL_law_718 : decode cL_law 718 = .ok (.aload_n 1, 1) := dk_43 (dk_at dksL_law_26 14 rfl rfl)
theorem dL_law_719 : decode cL_law 719 = .ok (.aload_n 0, 1) := dk_42 (dk_at dksL_law_26 15 rfl rfl)
theorem dL_law_720 : decode cL_law 720 = .ok (.iload_n 3, 1) := dk_29 (dk_at dksL_law_26 16 rfl rfl)
theorem dL_law_721 : decode cL_law 721 = .ok (.iconst 1, 1) := dk_4 (dk_at dksL_law_26 17 rfl rfl)
theorem dL_law_722 : decode cL_law 722 = .ok (.iadd, 1) := dk_96 (dk_at dksL_law_26 18 rfl rfl)
theorem dL_law_723 : decode cL_law 723 = .ok (.iaload, 1) := dk_46 (dk_at dksL_law_26 19 rfl rfl)
theorem dL_law_724 : decode cL_law 724 = .ok (.aload_n 0, 1) := dk_42 (dk_at dksL_law_26 20 rfl rfl)
theorem dL_law_725 : decode cL_law 725 = .ok (.iload_n 3, 1) := dk_29 (dk_at dksL_law_26 21 rfl rfl)
theorem dL_law_726 : decode cL_law 726 = .ok (.iconst 2, 1) := dk_5 (dk_at dksL_law_26 22 rfl rfl)
theorem dL_law_727 : decode cL_law 727 = .ok (.iadd, 1) := dk_96 (dk_at dksL_law_26 23 rfl rfl)
theorem dL_law_728 : decode cL_law 728 = .ok (.iaload, 1) := dk_46 (dk_at dksL_law_27 0 rfl rfl)
theorem dL_law_729 : decode cL_law 729 = .ok (.aload_n 0, 1) := dk_42 (dk_at dksL_law_27 1 rfl rfl)
theorem dL_law_730 : decode cL_law 730 = .ok (.iload_n 3, 1) := dk_29 (dk_at dksL_law_27 2 rfl rfl)
theorem dL_law_731 : decode cL_law 731 = .ok (.iconst 3, 1) := dk_6 (dk_at dksL_law_27 3 rfl rfl)
theorem dL_law_732 : decode cL_law 732 = .ok (.iadd, 1) := dk_96 (dk_at dksL_law_27 4 rfl rfl)
theorem dL_law_733 : decode cL_law 733 = .ok (.iaload, 1) := dk_46 (dk_at dksL_law_27 5 rfl rfl)
theorem dL_law_734 : decode cL_law 734 = .ok (.aload_n 0, 1) := dk_42 (dk_at dksL_law_27 6 rfl rfl)
theorem dL_law_735 : decode cL_law 735 = .ok (.iload_n 3, 1) := dk_29 (dk_at dksL_law_27 7 rfl rfl)
theorem dL_law_736 : decode cL_law 736 = .ok (.iconst 4, 1) := dk_7 (dk_at dksL_law_27 8 rfl rfl)
theorem dL_law_737 : decode cL_law 737 = .ok (.iadd, 1) := dk_96 (dk_at dksL_law_27 9 rfl rfl)
theorem dL_law_738 : decode cL_law 738 = .ok (.iaload, 1) := dk_46 (dk_at dksL_law_27 10 rfl rfl)
theorem dL_law_739 : decode cL_law 739 = .ok (.aload_n 0, 1) := dk_42 (dk_at dksL_law_27 11 rfl rfl)
theorem dL_law_740 : decode cL_law 740 = .ok (.iload_n 3, 1) := dk_29 (dk_at dksL_law_27 12 rfl rfl)
theorem dL_law_741 : decode cL_law 741 = .ok (.iconst 5, 1) := dk_8 (dk_at dksL_law_27 13 rfl rfl)
theorem dL_law_742 : decode cL_law 742 = .ok (.iadd, 1) := dk_96 (dk_at dksL_law_27 14 rfl rfl)
theorem dL_law_743 : decode cL_law 743 = .ok (.iaload, 1) := dk_46 (dk_at dksL_law_27 15 rfl rfl)
theorem dL_law_744 : decode cL_law 744 = .ok (.invokevirtual 113, 3) := dk_182 0 113 (dk_at dksL_law_27 16 rfl rfl)
theorem dL_law_747 : decode cL_law 747 = .ok (.aload_n 2, 1) := dk_44 (dk_at dksL_law_27 19 rfl rfl)
theorem dL_law_748 : decode cL_law 748 = .ok (.aload_n 0, 1) := dk_42 (dk_at dksL_law_27 20 rfl rfl)
theorem dL_law_749 : decode cL_law 749 = .ok (.iload_n 3, 1) := dk_29 (dk_at dksL_law_27 21 rfl rfl)
theorem dL_law_750 : decode cL_law 750 = .ok (.iconst 1, 1) := dk_4 (dk_at dksL_law_27 22 rfl rfl)
theorem dL_law_751 : decode cL_law 751 = .ok (.iadd, 1) := dk_96 (dk_at dksL_law_27 23 rfl rfl)
theorem dL_law_752 : decode cL_law 752 = .ok (.iaload, 1) := dk_46 (dk_at dksL_law_28 0 rfl rfl)
theorem dL_law_753 : decode cL_law 753 = .ok (.aload_n 0, 1) := dk_42 (dk_at dksL_law_28 1 rfl rfl)
theorem dL_law_754 : decode cL_law 754 = .ok (.iload_n 3, 1) := dk_29 (dk_at dksL_law_28 2 rfl rfl)
theorem dL_law_755 : decode cL_law 755 = .ok (.iconst 2, 1) := dk_5 (dk_at dksL_law_28 3 rfl rfl)
theorem dL_law_756 : decode cL_law 756 = .ok (.iadd, 1) := dk_96 (dk_at dksL_law_28 4 rfl rfl)
theorem dL_law_757 : decode cL_law 757 = .ok (.iaload, 1) := dk_46 (dk_at dksL_law_28 5 rfl rfl)
theorem dL_law_758 : decode cL_law 758 = .ok (.aload_n 0, 1) := dk_42 (dk_at dksL_law_28 6 rfl rfl)
theorem dL_law_759 : decode cL_law 759 = .ok (.iload_n 3, 1) := dk_29 (dk_at dksL_law_28 7 rfl rfl)
theorem dL_law_760 : decode cL_law 760 = .ok (.iconst 3, 1) := dk_6 (dk_at dksL_law_28 8 rfl rfl)
theorem dL_law_761 : decode cL_law 761 = .ok (.iadd, 1) := dk_96 (dk_at dksL_law_28 9 rfl rfl)
theorem dL_law_762 : decode cL_law 762 = .ok (.iaload, 1) := dk_46 (dk_at dksL_law_28 10 rfl rfl)
theorem dL_law_763 : decode cL_law 763 = .ok (.aload_n 0, 1) := dk_42 (dk_at dksL_law_28 11 rfl rfl)
theorem dL_law_764 : decode cL_law 764 = .ok (.iload_n 3, 1) := dk_29 (dk_at dksL_law_28 12 rfl rfl)
theorem dL_law_765 : decode cL_law 765 = .ok (.iconst 4, 1) := dk_7 (dk_at dksL_law_28 13 rfl rfl)
theorem dL_law_766 : decode cL_law 766 = .ok (.iadd, 1) := dk_96 (dk_at dksL_law_28 14 rfl rfl)
theorem dL_law_767 : decode cL_law 767 = .ok (.iaload, 1) := dk_46 (dk_at dksL_law_28 15 rfl rfl)
theorem dL_law_768 : decode cL_law 768 = .ok (.aload_n 0, 1) := dk_42 (dk_at dksL_law_28 16 rfl rfl)
theorem dL_law_769 : decode cL_law 769 = .ok (.iload_n 3, 1) := dk_29 (dk_at dksL_law_28 17 rfl rfl)
theorem dL_law_770 : decode cL_law 770 = .ok (.iconst 5, 1) := dk_8 (dk_at dksL_law_28 18 rfl rfl)
theorem dL_law_771 : decode cL_law 771 = .ok (.iadd, 1) := dk_96 (dk_at dksL_law_28 19 rfl rfl)
theorem dL_law_772 : decode cL_law 772 = .ok (.iaload, 1) := dk_46 (dk_at dksL_law_28 20 rfl rfl)
theorem dL_law_773 : decode cL_law 773 = .ok (.invokevirtual 117, 3) := dk_182 0 117 (dk_at dksL_law_28 21 rfl rfl)
theorem dL_law_776 : decode cL_law 776 = .ok (.lcmp, 1) := dk_148 (dk_at dksL_law_29 0 rfl rfl)
theorem dL_law_777 : decode cL_law 777 = .ok (.ifCond .eq 51, 3) := dk_153 0 51 (dk_at dksL_law_29 1 rfl rfl)
theorem dL_law_780 : decode cL_law 780 = .ok (.iconst 0, 1) := dk_3 (dk_at dksL_law_29 4 rfl rfl)
theorem dL_law_781 : decode cL_law 781 = .ok (.ireturn, 1) := dk_172 (dk_at dksL_law_29 5 rfl rfl)
theorem dL_law_782 : decode cL_law 782 = .ok (.aload_n 1, 1) := dk_43 (dk_at dksL_law_29 6 rfl rfl)
theorem dL_law_783 : decode cL_law 783 = .ok (.aload_n 0, 1) := dk_42 (dk_at dksL_law_29 7 rfl rfl)
theorem dL_law_784 : decode cL_law 784 = .ok (.iload_n 3, 1) := dk_29 (dk_at dksL_law_29 8 rfl rfl)
theorem dL_law_785 : decode cL_law 785 = .ok (.iconst 1, 1) := dk_4 (dk_at dksL_law_29 9 rfl rfl)
theorem dL_law_786 : decode cL_law 786 = .ok (.iadd, 1) := dk_96 (dk_at dksL_law_29 10 rfl rfl)
theorem dL_law_787 : decode cL_law 787 = .ok (.iaload, 1) := dk_46 (dk_at dksL_law_29 11 rfl rfl)
theorem dL_law_788 : decode cL_law 788 = .ok (.invokevirtual 118, 3) := dk_182 0 118 (dk_at dksL_law_29 12 rfl rfl)
theorem dL_law_791 : decode cL_law 791 = .ok (.aload_n 2, 1) := dk_44 (dk_at dksL_law_29 15 rfl rfl)
theorem dL_law_792 : decode cL_law 792 = .ok (.aload_n 0, 1) := dk_42 (dk_at dksL_law_29 16 rfl rfl)
theorem dL_law_793 : decode cL_law 793 = .ok (.iload_n 3, 1) := dk_29 (dk_at dksL_law_29 17 rfl rfl)
theorem dL_law_794 : decode cL_law 794 = .ok (.iconst 1, 1) := dk_4 (dk_at dksL_law_29 18 rfl rfl)
theorem dL_law_795 : decode cL_law 795 = .ok (.iadd, 1) := dk_96 (dk_at dksL_law_29 19 rfl rfl)
theorem dL_law_796 : decode cL_law 796 = .ok (.iaload, 1) := dk_46 (dk_at dksL_law_29 20 rfl rfl)
theorem dL_law_797 : decode cL_law 797 = .ok (.invokevirtual 121, 3) := dk_182 0 121 (dk_at dksL_law_29 21 rfl rfl)
theorem dL_law_800 : decode cL_law 800 = .ok (.if_icmp .eq 28, 3) := dk_159 0 28 (dk_at dksL_law_30 0 rfl rfl)
theorem dL_law_803 : decode cL_law 803 = .ok (.iconst 0, 1) := dk_3 (dk_at dksL_law_30 3 rfl rfl)
theorem dL_law_804 : decode cL_law 804 = .ok (.ireturn, 1) := dk_172 (dk_at dksL_law_30 4 rfl rfl)
theorem dL_law_805 : decode cL_law 805 = .ok (.aload_n 1, 1) := dk_43 (dk_at dksL_law_30 5 rfl rfl)
theorem dL_law_806 : decode cL_law 806 = .ok (.aload_n 0, 1) := dk_42 (dk_at dksL_law_30 6 rfl rfl)
theorem dL_law_807 : decode cL_law 807 = .ok (.iload_n 3, 1) := dk_29 (dk_at dksL_law_30 7 rfl rfl)
theorem dL_law_808 : decode cL_law 808 = .ok (.iconst 1, 1) := dk_4 (dk_at dksL_law_30 8 rfl rfl)
theorem dL_law_809 : decode cL_law 809 = .ok (.iadd, 1) := dk_96 (dk_at dksL_law_30 9 rfl rfl)
theorem dL_law_810 : decode cL_law 810 = .ok (.iaload, 1) := dk_46 (dk_at dksL_law_30 10 rfl rfl)
theorem dL_law_811 : decode cL_law 811 = .ok (.invokevirtual 122, 3) := dk_182 0 122 (dk_at dksL_law_30 11 rfl rfl)
theorem dL_law_814 : decode cL_law 814 = .ok (.aload_n 2, 1) := dk_44 (dk_at dksL_law_30 14 rfl rfl)
theorem dL_law_815 : decode cL_law 815 = .ok (.aload_n 0, 1) := dk_42 (dk_at dksL_law_30 15 rfl rfl)
theorem dL_law_816 : decode cL_law 816 = .ok (.iload_n 3, 1) := dk_29 (dk_at dksL_law_30 16 rfl rfl)
theorem dL_law_817 : decode cL_law 817 = .ok (.iconst 1, 1) := dk_4 (dk_at dksL_law_30 17 rfl rfl)
theorem dL_law_818 : decode cL_law 818 = .ok (.iadd, 1) := dk_96 (dk_at dksL_law_30 18 rfl rfl)
theorem dL_law_819 : decode cL_law 819 = .ok (.iaload, 1) := dk_46 (dk_at dksL_law_30 19 rfl rfl)
theorem dL_law_820 : decode cL_law 820 = .ok (.invokevirtual 125, 3) := dk_182 0 125 (dk_at dksL_law_30 20 rfl rfl)
theorem dL_law_823 : decode cL_law 823 = .ok (.if_icmp .eq 5, 3) := dk_159 0 5 (dk_at dksL_law_31 0 rfl rfl)
theorem dL_law_826 : decode cL_law 826 = .ok (.iconst 0, 1) := dk_3 (dk_at dksL_law_31 3 rfl rfl)
theorem dL_law_827 : decode cL_law 827 = .ok (.ireturn, 1) := dk_172 (dk_at dksL_law_31 4 rfl rfl)
theorem dL_law_828 : decode cL_law 828 = .ok (.iinc 3 6, 3) := dk_132 3 6 (dk_at dksL_law_31 5 rfl rfl)
theorem dL_law_831 : decode cL_law 831 = .ok (.goto (-813), 3) := dk_167 252 211 (dk_at dksL_law_31 8 rfl rfl)
theorem dL_law_834 : decode cL_law 834 = .ok (.iconst 1, 1) := dk_4 (dk_at dksL_law_31 11 rfl rfl)
theorem dL_law_835 : decode cL_law 835 = .ok (.ireturn, 1) := dk_172 (dk_at dksL_law_31 12 rfl rfl)

theorem q66 : (Jvm.Cond.initialized "PerilSeatLaw") ∈ lw_all := lw_g (lw_at lw_m1 0 rfl) rfl
set_option maxRecDepth 100000
theorem q102 : (Jvm.Cond.classLink "PerilSeatLaw" (7 : Nat) "PerilSeat") ∈ lw_all := lw_g (lw_at lw_m1 36 rfl) rfl
theorem q104 : (Jvm.Cond.methodLink "PerilSeatLaw" (9 : Nat) ({ cls := "PerilSeat", name := "<init>", desc := "()V" } : Jvm.MethodName)) ∈ lw_all := lw_g (lw_at lw_m1 38 rfl) rfl
theorem q230 : (Jvm.Cond.methodLink "PerilSeatLaw" (13 : Nat) ({ cls := "PerilSeat", name := "write", desc := "(I)I" } : Jvm.MethodName)) ∈ lw_all := lw_g (lw_at lw_m1 164 rfl) rfl
theorem q238 : (Jvm.Cond.methodLink "PerilSeatLaw" (18 : Nat) ({ cls := "PerilSeat", name := "erase", desc := "()I" } : Jvm.MethodName)) ∈ lw_all := lw_g (lw_at lw_m1 172 rfl) rfl
theorem q242 : (Jvm.Cond.methodLink "PerilSeatLaw" (23 : Nat) ({ cls := "PerilSeat", name := "fault", desc := "()I" } : Jvm.MethodName)) ∈ lw_all := lw_g (lw_at lw_m1 176 rfl) rfl
theorem q651 : (Jvm.Cond.methodLink "PerilSeatLaw" (27 : Nat) ({ cls := "PerilSeat", name := "table", desc := "()I" } : Jvm.MethodName)) ∈ lw_all := lw_g (lw_at lw_m3 105 rfl) rfl
theorem q753 : (Jvm.Cond.methodLink "PerilSeatLaw" (31 : Nat) ({ cls := "PerilSeat", name := "seat", desc := "(II)I" } : Jvm.MethodName)) ∈ lw_all := lw_g (lw_at lw_m3 207 rfl) rfl
theorem q790 : (Jvm.Cond.methodLink "PerilSeatLaw" (36 : Nat) ({ cls := "PerilSeat", name := "knight", desc := "(II)I" } : Jvm.MethodName)) ∈ lw_all := lw_g (lw_at lw_m4 4 rfl) rfl
theorem q815 : (Jvm.Cond.methodLink "PerilSeatLaw" (40 : Nat) ({ cls := "PerilSeat", name := "as", desc := "(II)I" } : Jvm.MethodName)) ∈ lw_all := lw_g (lw_at lw_m4 29 rfl) rfl
theorem q891 : (Jvm.Cond.methodLink "PerilSeatLaw" (44 : Nat) ({ cls := "PerilSeat", name := "seatAs", desc := "(II)I" } : Jvm.MethodName)) ∈ lw_all := lw_g (lw_at lw_m4 105 rfl) rfl
theorem q902 : (Jvm.Cond.methodLink "PerilSeatLaw" (48 : Nat) ({ cls := "PerilSeat", name := "sit", desc := "(II)I" } : Jvm.MethodName)) ∈ lw_all := lw_g (lw_at lw_m4 116 rfl) rfl
theorem q926 : (Jvm.Cond.methodLink "PerilSeatLaw" (52 : Nat) ({ cls := "PerilSeat", name := "rise", desc := "()I" } : Jvm.MethodName)) ∈ lw_all := lw_g (lw_at lw_m4 140 rfl) rfl
theorem q930 : (Jvm.Cond.methodLink "PerilSeatLaw" (56 : Nat) ({ cls := "PerilSeat", name := "tell", desc := "(II)I" } : Jvm.MethodName)) ∈ lw_all := lw_g (lw_at lw_m4 144 rfl) rfl
theorem q934 : (Jvm.Cond.methodLink "PerilSeatLaw" (60 : Nat) ({ cls := "PerilSeat", name := "feast", desc := "()I" } : Jvm.MethodName)) ∈ lw_all := lw_g (lw_at lw_m4 148 rfl) rfl
theorem q982 : (Jvm.Cond.methodLink "PerilSeatLaw" (64 : Nat) ({ cls := "PerilSeat", name := "undo", desc := "()I" } : Jvm.MethodName)) ∈ lw_all := lw_g (lw_at lw_m4 196 rfl) rfl
theorem q986 : (Jvm.Cond.methodLink "PerilSeatLaw" (68 : Nat) ({ cls := "PerilSeat", name := "keep", desc := "(I)I" } : Jvm.MethodName)) ∈ lw_all := lw_g (lw_at lw_m4 200 rfl) rfl
theorem q990 : (Jvm.Cond.methodLink "PerilSeatLaw" (72 : Nat) ({ cls := "PerilSeat", name := "back", desc := "(I)I" } : Jvm.MethodName)) ∈ lw_all := lw_g (lw_at lw_m4 204 rfl) rfl
theorem q1019 : (Jvm.Cond.methodLink "PerilSeatLaw" (76 : Nat) ({ cls := "PerilSeat", name := "seatings", desc := "()I" } : Jvm.MethodName)) ∈ lw_all := lw_g (lw_at lw_m4 233 rfl) rfl
theorem q1035 : (Jvm.Cond.methodLink "PerilSeatLaw" (80 : Nat) ({ cls := "PerilSeat", name := "seatOf", desc := "(I)I" } : Jvm.MethodName)) ∈ lw_all := lw_g (lw_at lw_m5 9 rfl) rfl
theorem q1039 : (Jvm.Cond.methodLink "PerilSeatLaw" (84 : Nat) ({ cls := "PerilSeat", name := "moved", desc := "()I" } : Jvm.MethodName)) ∈ lw_all := lw_g (lw_at lw_m5 13 rfl) rfl
theorem q1043 : (Jvm.Cond.methodLink "PerilSeatLaw" (88 : Nat) ({ cls := "PerilSeat", name := "knows", desc := "(I)I" } : Jvm.MethodName)) ∈ lw_all := lw_g (lw_at lw_m5 17 rfl) rfl
theorem q1047 : (Jvm.Cond.methodLink "PerilSeatLaw" (92 : Nat) ({ cls := "PerilSeat", name := "judge", desc := "(I)I" } : Jvm.MethodName)) ∈ lw_all := lw_g (lw_at lw_m5 21 rfl) rfl
theorem q1051 : (Jvm.Cond.methodLink "PerilSeatLaw" (96 : Nat) ({ cls := "PerilSeat", name := "seen", desc := "(IIII)I" } : Jvm.MethodName)) ∈ lw_all := lw_g (lw_at lw_m5 25 rfl) rfl
theorem q1055 : (Jvm.Cond.methodLink "PerilSeatLaw" (101 : Nat) ({ cls := "PerilSeat", name := "forget", desc := "()I" } : Jvm.MethodName)) ∈ lw_all := lw_g (lw_at lw_m5 29 rfl) rfl
theorem q1059 : (Jvm.Cond.methodLink "PerilSeatLaw" (105 : Nat) ({ cls := "PerilSeat", name := "worlds", desc := "(I)I" } : Jvm.MethodName)) ∈ lw_all := lw_g (lw_at lw_m5 33 rfl) rfl
theorem q1068 : (Jvm.Cond.methodLink "PerilSeatLaw" (109 : Nat) ({ cls := "PerilSeat", name := "safest", desc := "(II)I" } : Jvm.MethodName)) ∈ lw_all := lw_g (lw_at lw_m5 42 rfl) rfl
theorem q1076 : (Jvm.Cond.methodLink "PerilSeatLaw" (113 : Nat) ({ cls := "PerilSeat", name := "quests", desc := "(IIIII)J" } : Jvm.MethodName)) ∈ lw_all := lw_g (lw_at lw_m5 50 rfl) rfl
theorem q1087 : (Jvm.Cond.methodLink "PerilSeatLaw" (118 : Nat) ({ cls := "PerilSeat", name := "lent", desc := "(I)I" } : Jvm.MethodName)) ∈ lw_all := lw_g (lw_at lw_m5 61 rfl) rfl
theorem q1091 : (Jvm.Cond.methodLink "PerilSeatLaw" (122 : Nat) ({ cls := "PerilSeat", name := "count", desc := "(I)I" } : Jvm.MethodName)) ∈ lw_all := lw_g (lw_at lw_m5 65 rfl) rfl
theorem q1095 : (Jvm.Cond.classLink "PerilSeatLaw" (10 : Nat) "PerilSeatModel") ∈ lw_all := lw_g (lw_at lw_m5 69 rfl) rfl
theorem q1097 : (Jvm.Cond.methodLink "PerilSeatLaw" (12 : Nat) ({ cls := "PerilSeatModel", name := "<init>", desc := "()V" } : Jvm.MethodName)) ∈ lw_all := lw_g (lw_at lw_m5 71 rfl) rfl
theorem q1221 : (Jvm.Cond.methodLink "PerilSeatLaw" (17 : Nat) ({ cls := "PerilSeatModel", name := "write", desc := "(I)I" } : Jvm.MethodName)) ∈ lw_all := lw_g (lw_at lw_m5 195 rfl) rfl
theorem q1228 : (Jvm.Cond.methodLink "PerilSeatLaw" (22 : Nat) ({ cls := "PerilSeatModel", name := "erase", desc := "()I" } : Jvm.MethodName)) ∈ lw_all := lw_g (lw_at lw_m5 202 rfl) rfl
theorem q1232 : (Jvm.Cond.methodLink "PerilSeatLaw" (26 : Nat) ({ cls := "PerilSeatModel", name := "fault", desc := "()I" } : Jvm.MethodName)) ∈ lw_all := lw_g (lw_at lw_m5 206 rfl) rfl
theorem q1298 : (Jvm.Cond.methodLink "PerilSeatLaw" (30 : Nat) ({ cls := "PerilSeatModel", name := "table", desc := "()I" } : Jvm.MethodName)) ∈ lw_all := lw_g (lw_at lw_m6 32 rfl) rfl
theorem q1302 : (Jvm.Cond.methodLink "PerilSeatLaw" (35 : Nat) ({ cls := "PerilSeatModel", name := "seat", desc := "(II)I" } : Jvm.MethodName)) ∈ lw_all := lw_g (lw_at lw_m6 36 rfl) rfl
theorem q1318 : (Jvm.Cond.methodLink "PerilSeatLaw" (39 : Nat) ({ cls := "PerilSeatModel", name := "knight", desc := "(II)I" } : Jvm.MethodName)) ∈ lw_all := lw_g (lw_at lw_m6 52 rfl) rfl
theorem q1329 : (Jvm.Cond.methodLink "PerilSeatLaw" (43 : Nat) ({ cls := "PerilSeatModel", name := "as", desc := "(II)I" } : Jvm.MethodName)) ∈ lw_all := lw_g (lw_at lw_m6 63 rfl) rfl
theorem q1341 : (Jvm.Cond.methodLink "PerilSeatLaw" (47 : Nat) ({ cls := "PerilSeatModel", name := "seatAs", desc := "(II)I" } : Jvm.MethodName)) ∈ lw_all := lw_g (lw_at lw_m6 75 rfl) rfl
theorem q1349 : (Jvm.Cond.methodLink "PerilSeatLaw" (51 : Nat) ({ cls := "PerilSeatModel", name := "sit", desc := "(II)I" } : Jvm.MethodName)) ∈ lw_all := lw_g (lw_at lw_m6 83 rfl) rfl
theorem q1364 : (Jvm.Cond.methodLink "PerilSeatLaw" (55 : Nat) ({ cls := "PerilSeatModel", name := "rise", desc := "()I" } : Jvm.MethodName)) ∈ lw_all := lw_g (lw_at lw_m6 98 rfl) rfl
theorem q1372 : (Jvm.Cond.methodLink "PerilSeatLaw" (59 : Nat) ({ cls := "PerilSeatModel", name := "tell", desc := "(II)I" } : Jvm.MethodName)) ∈ lw_all := lw_g (lw_at lw_m6 106 rfl) rfl
theorem q1376 : (Jvm.Cond.methodLink "PerilSeatLaw" (63 : Nat) ({ cls := "PerilSeatModel", name := "feast", desc := "()I" } : Jvm.MethodName)) ∈ lw_all := lw_g (lw_at lw_m6 110 rfl) rfl
theorem q1396 : (Jvm.Cond.methodLink "PerilSeatLaw" (67 : Nat) ({ cls := "PerilSeatModel", name := "undo", desc := "()I" } : Jvm.MethodName)) ∈ lw_all := lw_g (lw_at lw_m6 130 rfl) rfl
theorem q1400 : (Jvm.Cond.methodLink "PerilSeatLaw" (71 : Nat) ({ cls := "PerilSeatModel", name := "keep", desc := "(I)I" } : Jvm.MethodName)) ∈ lw_all := lw_g (lw_at lw_m6 134 rfl) rfl
theorem q1404 : (Jvm.Cond.methodLink "PerilSeatLaw" (75 : Nat) ({ cls := "PerilSeatModel", name := "back", desc := "(I)I" } : Jvm.MethodName)) ∈ lw_all := lw_g (lw_at lw_m6 138 rfl) rfl
theorem q1408 : (Jvm.Cond.methodLink "PerilSeatLaw" (79 : Nat) ({ cls := "PerilSeatModel", name := "seatings", desc := "()I" } : Jvm.MethodName)) ∈ lw_all := lw_g (lw_at lw_m6 142 rfl) rfl
theorem q1432 : (Jvm.Cond.methodLink "PerilSeatLaw" (83 : Nat) ({ cls := "PerilSeatModel", name := "seatOf", desc := "(I)I" } : Jvm.MethodName)) ∈ lw_all := lw_g (lw_at lw_m6 166 rfl) rfl
theorem q1436 : (Jvm.Cond.methodLink "PerilSeatLaw" (87 : Nat) ({ cls := "PerilSeatModel", name := "moved", desc := "()I" } : Jvm.MethodName)) ∈ lw_all := lw_g (lw_at lw_m6 170 rfl) rfl
theorem q1440 : (Jvm.Cond.methodLink "PerilSeatLaw" (91 : Nat) ({ cls := "PerilSeatModel", name := "knows", desc := "(I)I" } : Jvm.MethodName)) ∈ lw_all := lw_g (lw_at lw_m6 174 rfl) rfl
theorem q1444 : (Jvm.Cond.methodLink "PerilSeatLaw" (95 : Nat) ({ cls := "PerilSeatModel", name := "judge", desc := "(I)I" } : Jvm.MethodName)) ∈ lw_all := lw_g (lw_at lw_m6 178 rfl) rfl
theorem q1448 : (Jvm.Cond.methodLink "PerilSeatLaw" (100 : Nat) ({ cls := "PerilSeatModel", name := "seen", desc := "(IIII)I" } : Jvm.MethodName)) ∈ lw_all := lw_g (lw_at lw_m6 182 rfl) rfl
theorem q1452 : (Jvm.Cond.methodLink "PerilSeatLaw" (104 : Nat) ({ cls := "PerilSeatModel", name := "forget", desc := "()I" } : Jvm.MethodName)) ∈ lw_all := lw_g (lw_at lw_m6 186 rfl) rfl
theorem q1456 : (Jvm.Cond.methodLink "PerilSeatLaw" (108 : Nat) ({ cls := "PerilSeatModel", name := "worlds", desc := "(I)I" } : Jvm.MethodName)) ∈ lw_all := lw_g (lw_at lw_m6 190 rfl) rfl
theorem q1464 : (Jvm.Cond.methodLink "PerilSeatLaw" (112 : Nat) ({ cls := "PerilSeatModel", name := "safest", desc := "(II)I" } : Jvm.MethodName)) ∈ lw_all := lw_g (lw_at lw_m6 198 rfl) rfl
theorem q1472 : (Jvm.Cond.methodLink "PerilSeatLaw" (117 : Nat) ({ cls := "PerilSeatModel", name := "quests", desc := "(IIIII)J" } : Jvm.MethodName)) ∈ lw_all := lw_g (lw_at lw_m6 206 rfl) rfl
theorem q1479 : (Jvm.Cond.methodLink "PerilSeatLaw" (121 : Nat) ({ cls := "PerilSeatModel", name := "lent", desc := "(I)I" } : Jvm.MethodName)) ∈ lw_all := lw_g (lw_at lw_m6 213 rfl) rfl
theorem q1483 : (Jvm.Cond.methodLink "PerilSeatLaw" (125 : Nat) ({ cls := "PerilSeatModel", name := "count", desc := "(I)I" } : Jvm.MethodName)) ∈ lw_all := lw_g (lw_at lw_m6 217 rfl) rfl

theorem q364 : (Jvm.Cond.sameMethod "[B" "java/lang/Object" "clone" "()Ljava/lang/Object;") ∈ lw_all := lw_g (lw_at lw_m2 58 rfl) rfl
set_option maxRecDepth 100000
theorem q367 : (Jvm.Cond.selects "[B" ({ cls := "[B", name := "clone", desc := "()Ljava/lang/Object;" } : Jvm.MethodName) ({ cls := "java/lang/Object", name := "clone", desc := "()Ljava/lang/Object;" } : Jvm.MethodName)) ∈ lw_all := lw_g (lw_at lw_m2 61 rfl) rfl
theorem q368 : (Jvm.Cond.castable "[B" "java/lang/Cloneable") ∈ lw_tbl := lw_at lw_m2 62 rfl
theorem q1531 : (Jvm.Cond.castable "[B" "java/lang/Object") ∈ lw_tbl := lw_at lw_m7 25 rfl

theorem q964 : (Jvm.Cond.sameMethod "[I" "java/lang/Object" "clone" "()Ljava/lang/Object;") ∈ lw_all := lw_g (lw_at lw_m4 178 rfl) rfl
set_option maxRecDepth 100000
theorem q965 : (Jvm.Cond.selects "[I" ({ cls := "[I", name := "clone", desc := "()Ljava/lang/Object;" } : Jvm.MethodName) ({ cls := "java/lang/Object", name := "clone", desc := "()Ljava/lang/Object;" } : Jvm.MethodName)) ∈ lw_all := lw_g (lw_at lw_m4 179 rfl) rfl
theorem q966 : (Jvm.Cond.castable "[I" "java/lang/Cloneable") ∈ lw_tbl := lw_at lw_m4 180 rfl
theorem q1528 : (Jvm.Cond.castable "[I" "java/lang/Object") ∈ lw_tbl := lw_at lw_m7 22 rfl

theorem q1529 : (Jvm.Cond.castable "[LPerilSeat$State;" "java/lang/Object") ∈ lw_tbl := lw_at lw_m7 23 rfl
set_option maxRecDepth 100000

theorem q1527 : (Jvm.Cond.castable "[Ljava/lang/Object;" "java/lang/Object") ∈ lw_tbl := lw_at lw_m7 21 rfl
set_option maxRecDepth 100000

theorem q1533 : (Jvm.Cond.castable "[Ljava/lang/String;" "java/lang/Object") ∈ lw_tbl := lw_at lw_m7 27 rfl
set_option maxRecDepth 100000

theorem q1532 : (Jvm.Cond.castable "[Z" "java/lang/Object") ∈ lw_tbl := lw_at lw_m7 26 rfl
set_option maxRecDepth 100000

theorem q1530 : (Jvm.Cond.castable "[[I" "java/lang/Object") ∈ lw_tbl := lw_at lw_m7 24 rfl
set_option maxRecDepth 100000

theorem q84 : (Jvm.Cond.initialized "java/lang/Number") ∈ lw_all := lw_g (lw_at lw_m1 18 rfl) rfl
set_option maxRecDepth 100000

theorem q78 : (Jvm.Cond.initialized "java/lang/System") ∈ lw_all := lw_g (lw_at lw_m1 12 rfl) rfl
set_option maxRecDepth 100000
theorem q374 : (Jvm.Cond.static ({ cls := "java/lang/System", name := "arraycopy", desc := "(Ljava/lang/Object;ILjava/lang/Object;II)V" } : Jvm.MethodName)) ∈ lw_all := lw_g (lw_at lw_m2 68 rfl) rfl
theorem q375 : (Jvm.Cond.native ({ cls := "java/lang/System", name := "arraycopy", desc := "(Ljava/lang/Object;ILjava/lang/Object;II)V" } : Jvm.MethodName)) ∈ lw_all := lw_g (lw_at lw_m2 69 rfl) rfl

theorem q111 : (Jvm.Cond.arrayOver (Jvm.ClassFile.FieldType.object "java/lang/Object")) ∈ lw_tbl := lw_at lw_m1 45 rfl
set_option maxRecDepth 100000
theorem q139 : (Jvm.Cond.arrayClass Jvm.ClassFile.FieldType.int) ∈ lw_all := lw_g (lw_at lw_m1 73 rfl) rfl
theorem q140 : (Jvm.Cond.arrayOver (Jvm.ClassFile.FieldType.object "PerilSeat$State")) ∈ lw_tbl := lw_at lw_m1 74 rfl
theorem q142 : (Jvm.Cond.arrayOver (Jvm.ClassFile.FieldType.array Jvm.ClassFile.FieldType.int)) ∈ lw_tbl := lw_at lw_m1 76 rfl
theorem q229 : (Jvm.Cond.arrayClass Jvm.ClassFile.FieldType.byte) ∈ lw_all := lw_g (lw_at lw_m1 163 rfl) rfl
theorem q1220 : (Jvm.Cond.arrayClass Jvm.ClassFile.FieldType.boolean) ∈ lw_all := lw_g (lw_at lw_m5 194 rfl) rfl
theorem q1546 : (Jvm.Cond.arrayOver (Jvm.ClassFile.FieldType.object "java/lang/String")) ∈ lw_tbl := lw_at lw_m7 40 rfl
