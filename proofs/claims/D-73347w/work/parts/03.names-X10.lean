set_option maxRecDepth 100000
abbrev cX10_init : ByteArray := prog_22_method_1_code
def yX10_init : MethodName := ⟨RX10, "<init>", "()V"⟩
def dkwX10_init_16 : List UInt8 := [181, 0, 112, 42, 16, 8, 188, 10, 181, 0, 115, 42, 6, 188, 10, 181, 0, 118, 177]
abbrev dktX10_init_16 : List UInt8 := dkwX10_init_16 ++ []
def dkwX10_init_15 : List UInt8 := [17, 2, 153, 188, 10, 181, 0, 106, 42, 17, 103, 232, 188, 10, 181, 0, 109, 42, 16, 8, 188, 10]
abbrev dktX10_init_15 : List UInt8 := dkwX10_init_15 ++ dktX10_init_16
def dkwX10_init_14 : List UInt8 := [188, 10, 181, 0, 97, 42, 17, 0, 199, 188, 10, 181, 0, 100, 42, 17, 3, 227, 188, 10, 181, 0, 103, 42]
abbrev dktX10_init_14 : List UInt8 := dkwX10_init_14 ++ dktX10_init_15
def dkwX10_init_13 : List UInt8 := [181, 0, 88, 42, 17, 1, 185, 188, 10, 181, 0, 91, 42, 16, 8, 188, 10, 181, 0, 94, 42, 16, 8]
abbrev dktX10_init_13 : List UInt8 := dkwX10_init_13 ++ dktX10_init_14
def dkwX10_init_12 : List UInt8 := [17, 8, 0, 188, 4, 181, 0, 81, 42, 17, 103, 232, 188, 10, 181, 0, 85, 42, 17, 2, 153, 188, 10]
abbrev dktX10_init_12 : List UInt8 := dkwX10_init_12 ++ dktX10_init_13
def dkwX10_init_11 : List UInt8 := [188, 10, 181, 0, 72, 42, 17, 32, 0, 188, 10, 181, 0, 75, 42, 17, 8, 0, 188, 10, 181, 0, 78, 42]
abbrev dktX10_init_11 : List UInt8 := dkwX10_init_11 ++ dktX10_init_12
def dkwX10_init_10 : List UInt8 := [17, 2, 188, 188, 10, 181, 0, 62, 42, 2, 181, 0, 65, 42, 7, 188, 10, 181, 0, 69, 42, 16, 64]
abbrev dktX10_init_10 : List UInt8 := dkwX10_init_10 ++ dktX10_init_11
def dkwX10_init_9 : List UInt8 := [188, 10, 181, 0, 53, 42, 6, 188, 10, 181, 0, 56, 42, 17, 2, 153, 188, 10, 181, 0, 59, 42]
abbrev dktX10_init_9 : List UInt8 := dkwX10_init_9 ++ dktX10_init_10
def dkwX10_init_8 : List UInt8 := [181, 0, 44, 42, 16, 32, 188, 10, 181, 0, 48, 42, 17, 5, 120, 188, 10, 181, 0, 50, 42, 17, 5, 120]
abbrev dktX10_init_8 : List UInt8 := dkwX10_init_8 ++ dktX10_init_9
def dkwX10_init_7 : List UInt8 := [16, 15, 3, 79, 89, 16, 16, 3, 79, 89, 16, 17, 3, 79, 89, 16, 18, 3, 79, 89, 16, 19, 3, 79]
abbrev dktX10_init_7 : List UInt8 := dkwX10_init_7 ++ dktX10_init_8
def dkwX10_init_6 : List UInt8 := [3, 79, 89, 16, 11, 3, 79, 89, 16, 12, 3, 79, 89, 16, 13, 3, 79, 89, 16, 14, 3, 79, 89]
abbrev dktX10_init_6 : List UInt8 := dkwX10_init_6 ++ dktX10_init_7
def dkwX10_init_5 : List UInt8 := [79, 89, 16, 6, 4, 79, 89, 16, 7, 4, 79, 89, 16, 8, 3, 79, 89, 16, 9, 3, 79, 89, 16, 10]
abbrev dktX10_init_5 : List UInt8 := dkwX10_init_5 ++ dktX10_init_6
def dkwX10_init_4 : List UInt8 := [3, 7, 79, 89, 4, 16, 12, 79, 89, 5, 7, 79, 89, 6, 4, 79, 89, 7, 16, 8, 79, 89, 8, 3]
abbrev dktX10_init_4 : List UInt8 := dkwX10_init_4 ++ dktX10_init_5
def dkwX10_init_3 : List UInt8 := [18, 35, 83, 89, 16, 7, 18, 37, 83, 89, 16, 8, 18, 39, 83, 181, 0, 41, 42, 16, 20, 188, 10, 89]
abbrev dktX10_init_3 : List UInt8 := dkwX10_init_3 ++ dktX10_init_4
def dkwX10_init_2 : List UInt8 := [89, 5, 18, 27, 83, 89, 6, 18, 29, 83, 89, 7, 18, 31, 83, 89, 8, 18, 33, 83, 89, 16, 6]
abbrev dktX10_init_2 : List UInt8 := dkwX10_init_2 ++ dktX10_init_3
def dkwX10_init_1 : List UInt8 := [89, 6, 18, 17, 83, 181, 0, 19, 42, 16, 9, 189, 0, 9, 89, 3, 18, 23, 83, 89, 4, 18, 25, 83]
abbrev dktX10_init_1 : List UInt8 := dkwX10_init_1 ++ dktX10_init_2
def dkwX10_init_0 : List UInt8 := [42, 183, 0, 3, 42, 7, 189, 0, 9, 89, 3, 18, 11, 83, 89, 4, 18, 13, 83, 89, 5, 18, 15, 83]
abbrev dktX10_init_0 : List UInt8 := dkwX10_init_0 ++ dktX10_init_1
theorem dksX10_init_0 : cX10_init.data.toList.drop 0 = dktX10_init_0 := by decide +kernel
theorem dksX10_init_1 : cX10_init.data.toList.drop 24 = dktX10_init_1 := dk_seg dksX10_init_0 24 rfl rfl
theorem dksX10_init_2 : cX10_init.data.toList.drop 48 = dktX10_init_2 := dk_seg dksX10_init_1 24 rfl rfl
theorem dksX10_init_3 : cX10_init.data.toList.drop 71 = dktX10_init_3 := dk_seg dksX10_init_2 23 rfl rfl
theorem dksX10_init_4 : cX10_init.data.toList.drop 95 = dktX10_init_4 := dk_seg dksX10_init_3 24 rfl rfl
theorem dksX10_init_5 : cX10_init.data.toList.drop 119 = dktX10_init_5 := dk_seg dksX10_init_4 24 rfl rfl
theorem dksX10_init_6 : cX10_init.data.toList.drop 143 = dktX10_init_6 := dk_seg dksX10_init_5 24 rfl rfl
theorem dksX10_init_7 : cX10_init.data.toList.drop 166 = dktX10_init_7 := dk_seg dksX10_init_6 23 rfl rfl
theorem dksX10_init_8 : cX10_init.data.toList.drop 190 = dktX10_init_8 := dk_seg dksX10_init_7 24 rfl rfl
theorem dksX10_init_9 : cX10_init.data.toList.drop 214 = dktX10_init_9 := dk_seg dksX10_init_8 24 rfl rfl
theorem dksX10_init_10 : cX10_init.data.toList.drop 236 = dktX10_init_10 := dk_seg dksX10_init_9 22 rfl rfl
theorem dksX10_init_11 : cX10_init.data.toList.drop 259 = dktX10_init_11 := dk_seg dksX10_init_10 23 rfl rfl
theorem dksX10_init_12 : cX10_init.data.toList.drop 283 = dktX10_init_12 := dk_seg dksX10_init_11 24 rfl rfl
theorem dksX10_init_13 : cX10_init.data.toList.drop 306 = dktX10_init_13 := dk_seg dksX10_init_12 23 rfl rfl
theorem dksX10_init_14 : cX10_init.data.toList.drop 329 = dktX10_init_14 := dk_seg dksX10_init_13 23 rfl rfl
theorem dksX10_init_15 : cX10_init.data.toList.drop 353 = dktX10_init_15 := dk_seg dksX10_init_14 24 rfl rfl
theorem dksX10_init_16 : cX10_init.data.toList.drop 375 = dktX10_init_16 := dk_seg dksX10_init_15 22 rfl rfl
theorem dX10_init_0 : decode cX10_init 0 = .ok (.aload_n 0, 1) := dk_42 (dk_at dksX10_init_0 0 rfl rfl)
theorem dX10_init_1 : decode cX10_init 1 = .ok (.invokespecial 3, 3) := dk_183 0 3 (dk_at dksX10_init_0 1 rfl rfl)
theorem dX10_init_4 : decode cX10_init 4 = .ok (.aload_n 0, 1) := dk_42 (dk_at dksX10_init_0 4 rfl rfl)
theorem dX10_init_5 : decode cX10_init 5 = .ok (.iconst 4, 1) := dk_7 (dk_at dksX10_init_0 5 rfl rfl)
theorem dX10_init_6 : decode cX10_init 6 = .ok (.anewarray 9, 3) := dk_189 0 9 (dk_at dksX10_init_0 6 rfl rfl)
theorem dX10_init_9 : decode cX10_init 9 = .ok (.dup, 1) := dk_89 (dk_at dksX10_init_0 9 rfl rfl)
theorem dX10_init_10 : decode cX10_init 10 = .ok (.iconst 0, 1) := dk_3 (dk_at dksX10_init_0 10 rfl rfl)
theorem dX10_init_11 : decode cX10_init 11 = .ok (.ldc 11, 2) := dk_18 11 (dk_at dksX10_init_0 11 rfl rfl)
theorem dX10_init_13 : decode cX10_init 13 = .ok (.aastore, 1) := dk_83 (dk_at dksX10_init_0 13 rfl rfl)
theorem dX10_init_14 : decode cX10_init 14 = .ok (.dup, 1) := dk_89 (dk_at dksX10_init_0 14 rfl rfl)
theorem dX10_init_15 : decode cX10_init 15 = .ok (.iconst 1, 1) := dk_4 (dk_at dksX10_init_0 15 rfl rfl)
theorem dX10_init_16 : decode cX10_init 16 = .ok (.ldc 13, 2) := dk_18 13 (dk_at dksX10_init_0 16 rfl rfl)
theorem dX10_init_18 : decode cX10_init 18 = .ok (.aastore, 1) := dk_83 (dk_at dksX10_init_0 18 rfl rfl)
theorem dX10_init_19 : decode cX10_init 19 = .ok (.dup, 1) := dk_89 (dk_at dksX10_init_0 19 rfl rfl)
theorem dX10_init_20 : decode cX10_init 20 = .ok (.iconst 2, 1) := dk_5 (dk_at dksX10_init_0 20 rfl rfl)
theorem dX10_init_21 : decode cX10_init 21 = .ok (.ldc 15, 2) := dk_18 15 (dk_at dksX10_init_0 21 rfl rfl)
theorem dX10_init_23 : decode cX10_init 23 = .ok (.aastore, 1) := dk_83 (dk_at dksX10_init_0 23 rfl rfl)
theorem dX10_init_24 : decode cX10_init 24 = .ok (.dup, 1) := dk_89 (dk_at dksX10_init_1 0 rfl rfl)
theorem dX10_init_25 : decode cX10_init 25 = .ok (.iconst 3, 1) := dk_6 (dk_at dksX10_init_1 1 rfl rfl)
theorem dX10_init_26 : decode cX10_init 26 = .ok (.ldc 17, 2) := dk_18 17 (dk_at dksX10_init_1 2 rfl rfl)
theorem dX10_init_28 : decode cX10_init 28 = .ok (.aastore, 1) := dk_83 (dk_at dksX10_init_1 4 rfl rfl)
theorem dX10_init_29 : decode cX10_init 29 = .ok (.putfield 19, 3) := dk_181 0 19 (dk_at dksX10_init_1 5 rfl rfl)
theorem dX10_init_32 : decode cX10_init 32 = .ok (.aload_n 0, 1) := dk_42 (dk_at dksX10_init_1 8 rfl rfl)
theorem dX10_init_33 : decode cX10_init 33 = .ok (.bipush 9, 2) := dk_16 9 (dk_at dksX10_init_1 9 rfl rfl)
theorem dX10_init_35 : decode cX10_init 35 = .ok (.anewarray 9, 3) := dk_189 0 9 (dk_at dksX10_init_1 11 rfl rfl)
theorem dX10_init_38 : decode cX10_init 38 = .ok (.dup, 1) := dk_89 (dk_at dksX10_init_1 14 rfl rfl)
theorem dX10_init_39 : decode cX10_init 39 = .ok (.iconst 0, 1) := dk_3 (dk_at dksX10_init_1 15 rfl rfl)
theorem dX10_init_40 : decode cX10_init 40 = .ok (.ldc 23, 2) := dk_18 23 (dk_at dksX10_init_1 16 rfl rfl)
theorem dX10_init_42 : decode cX10_init 42 = .ok (.aastore, 1) := dk_83 (dk_at dksX10_init_1 18 rfl rfl)
theorem dX10_init_43 : decode cX10_init 43 = .ok (.dup, 1) := dk_89 (dk_at dksX10_init_1 19 rfl rfl)
theorem dX10_init_44 : decode cX10_init 44 = .ok (.iconst 1, 1) := dk_4 (dk_at dksX10_init_1 20 rfl rfl)
theorem dX10_init_45 : decode cX10_init 45 = .ok (.ldc 25, 2) := dk_18 25 (dk_at dksX10_init_1 21 rfl rfl)
theorem dX10_init_47 : decode cX10_init 47 = .ok (.aastore, 1) := dk_83 (dk_at dksX10_init_1 23 rfl rfl)
theorem dX10_init_48 : decode cX10_init 48 = .ok (.dup, 1) := dk_89 (dk_at dksX10_init_2 0 rfl rfl)
theorem dX10_init_49 : decode cX10_init 49 = .ok (.iconst 2, 1) := dk_5 (dk_at dksX10_init_2 1 rfl rfl)
theorem dX10_init_50 : decode cX10_init 50 = .ok (.ldc 27, 2) := dk_18 27 (dk_at dksX10_init_2 2 rfl rfl)
theorem dX10_init_52 : decode cX10_init 52 = .ok (.aastore, 1) := dk_83 (dk_at dksX10_init_2 4 rfl rfl)
theorem dX10_init_53 : decode cX10_init 53 = .ok (.dup, 1) := dk_89 (dk_at dksX10_init_2 5 rfl rfl)
theorem dX10_init_54 : decode cX10_init 54 = .ok (.iconst 3, 1) := dk_6 (dk_at dksX10_init_2 6 rfl rfl)
theorem dX10_init_55 : decode cX10_init 55 = .ok (.ldc 29, 2) := dk_18 29 (dk_at dksX10_init_2 7 rfl rfl)
theorem dX10_init_57 : decode cX10_init 57 = .ok (.aastore, 1) := dk_83 (dk_at dksX10_init_2 9 rfl rfl)
theorem dX10_init_58 : decode cX10_init 58 = .ok (.dup, 1) := dk_89 (dk_at dksX10_init_2 10 rfl rfl)
theorem dX10_init_59 : decode cX10_init 59 = .ok (.iconst 4, 1) := dk_7 (dk_at dksX10_init_2 11 rfl rfl)
theorem dX10_init_60 : decode cX10_init 60 = .ok (.ldc 31, 2) := dk_18 31 (dk_at dksX10_init_2 12 rfl rfl)
theorem dX10_init_62 : decode cX10_init 62 = .ok (.aastore, 1) := dk_83 (dk_at dksX10_init_2 14 rfl rfl)
theorem dX10_init_63 : decode cX10_init 63 = .ok (.dup, 1) := dk_89 (dk_at dksX10_init_2 15 rfl rfl)
theorem dX10_init_64 : decode cX10_init 64 = .ok (.iconst 5, 1) := dk_8 (dk_at dksX10_init_2 16 rfl rfl)
theorem dX10_init_65 : decode cX10_init 65 = .ok (.ldc 33, 2) := dk_18 33 (dk_at dksX10_init_2 17 rfl rfl)
theorem dX10_init_67 : decode cX10_init 67 = .ok (.aastore, 1) := dk_83 (dk_at dksX10_init_2 19 rfl rfl)
theorem dX10_init_68 : decode cX10_init 68 = .ok (.dup, 1) := dk_89 (dk_at dksX10_init_2 20 rfl rfl)
theorem dX10_init_69 : decode cX10_init 69 = .ok (.bipush 6, 2) := dk_16 6 (dk_at dksX10_init_2 21 rfl rfl)
theorem dX10_init_71 : decode cX10_init 71 = .ok (.ldc 35, 2) := dk_18 35 (dk_at dksX10_init_3 0 rfl rfl)
theorem dX10_init_73 : decode cX10_init 73 = .ok (.aastore, 1) := dk_83 (dk_at dksX10_init_3 2 rfl rfl)
theorem dX10_init_74 : decode cX10_init 74 = .ok (.dup, 1) := dk_89 (dk_at dksX10_init_3 3 rfl rfl)
theorem dX10_init_75 : decode cX10_init 75 = .ok (.bipush 7, 2) := dk_16 7 (dk_at dksX10_init_3 4 rfl rfl)
theorem dX10_init_77 : decode cX10_init 77 = .ok (.ldc 37, 2) := dk_18 37 (dk_at dksX10_init_3 6 rfl rfl)
theorem dX10_init_79 : decode cX10_init 79 = .ok (.aastore, 1) := dk_83 (dk_at dksX10_init_3 8 rfl rfl)
theorem dX10_init_80 : decode cX10_init 80 = .ok (.dup, 1) := dk_89 (dk_at dksX10_init_3 9 rfl rfl)
theorem dX10_init_81 : decode cX10_init 81 = .ok (.bipush 8, 2) := dk_16 8 (dk_at dksX10_init_3 10 rfl rfl)
theorem dX10_init_83 : decode cX10_init 83 = .ok (.ldc 39, 2) := dk_18 39 (dk_at dksX10_init_3 12 rfl rfl)
theorem dX10_init_85 : decode cX10_init 85 = .ok (.aastore, 1) := dk_83 (dk_at dksX10_init_3 14 rfl rfl)
theorem dX10_init_86 : decode cX10_init 86 = .ok (.putfield 41, 3) := dk_181 0 41 (dk_at dksX10_init_3 15 rfl rfl)
theorem dX10_init_89 : decode cX10_init 89 = .ok (.aload_n 0, 1) := dk_42 (dk_at dksX10_init_3 18 rfl rfl)
theorem dX10_init_90 : decode cX10_init 90 = .ok (.bipush 20, 2) := dk_16 20 (dk_at dksX10_init_3 19 rfl rfl)
theorem dX10_init_92 : decode cX10_init 92 = .ok (.newarray .int, 2) := dk_188_10 (dk_at dksX10_init_3 21 rfl rfl)
theorem dX10_init_94 : decode cX10_init 94 = .ok (.dup, 1) := dk_89 (dk_at dksX10_init_3 23 rfl rfl)
theorem dX10_init_95 : decode cX10_init 95 = .ok (.iconst 0, 1) := dk_3 (dk_at dksX10_init_4 0 rfl rfl)
theorem dX10_init_96 : decode cX10_init 96 = .ok (.iconst 4, 1) := dk_7 (dk_at dksX10_init_4 1 rfl rfl)
theorem dX10_init_97 : decode cX10_init 97 = .ok (.iastore, 1) := dk_79 (dk_at dksX10_init_4 2 rfl rfl)
theorem dX10_init_98 : decode cX10_init 98 = .ok (.dup, 1) := dk_89 (dk_at dksX10_init_4 3 rfl rfl)
theorem dX10_init_99 : decode cX10_init 99 = .ok (.iconst 1, 1) := dk_4 (dk_at dksX10_init_4 4 rfl rfl)
theorem dX10_init_100 : decode cX10_init 100 = .ok (.bipush 12, 2) := dk_16 12 (dk_at dksX10_init_4 5 rfl rfl)
theorem dX10_init_102 : decode cX10_init 102 = .ok (.iastore, 1) := dk_79 (dk_at dksX10_init_4 7 rfl rfl)
theorem dX10_init_103 : decode cX10_init 103 = .ok (.dup, 1) := dk_89 (dk_at dksX10_init_4 8 rfl rfl)
theorem dX10_init_104 : decode cX10_init 104 = .ok (.iconst 2, 1) := dk_5 (dk_at dksX10_init_4 9 rfl rfl)
theorem dX10_init_105 : decode cX10_init 105 = .ok (.iconst 4, 1) := dk_7 (dk_at dksX10_init_4 10 rfl rfl)
theorem dX10_init_106 : decode cX10_init 106 = .ok (.iastore, 1) := dk_79 (dk_at dksX10_init_4 11 rfl rfl)
theorem dX10_init_107 : decode cX10_init 107 = .ok (.dup, 1) := dk_89 (dk_at dksX10_init_4 12 rfl rfl)
theorem dX10_init_108 : decode cX10_init 108 = .ok (.iconst 3, 1) := dk_6 (dk_at dksX10_init_4 13 rfl rfl)
theorem dX10_init_109 : decode cX10_init 109 = .ok (.iconst 1, 1) := dk_4 (dk_at dksX10_init_4 14 rfl rfl)
theorem dX10_init_110 : decode cX10_init 110 = .ok (.iastore, 1) := dk_79 (dk_at dksX10_init_4 15 rfl rfl)
theorem dX10_init_111 : decode cX10_init 111 = .ok (.dup, 1) := dk_89 (dk_at dksX10_init_4 16 rfl rfl)
theorem dX10_init_112 : decode cX10_init 112 = .ok (.iconst 4, 1) := dk_7 (dk_at dksX10_init_4 17 rfl rfl)
theorem dX10_init_113 : decode cX10_init 113 = .ok (.bipush 8, 2) := dk_16 8 (dk_at dksX10_init_4 18 rfl rfl)
theorem dX10_init_115 : decode cX10_init 115 = .ok (.iastore, 1) := dk_79 (dk_at dksX10_init_4 20 rfl rfl)
theorem dX10_init_116 : decode cX10_init 116 = .ok (.dup, 1) := dk_89 (dk_at dksX10_init_4 21 rfl rfl)
theorem dX10_init_117 : decode cX10_init 117 = .ok (.iconst 5, 1) := dk_8 (dk_at dksX10_init_4 22 rfl rfl)
theorem dX10_init_118 : decode cX10_init 118 = .ok (.iconst 0, 1) := dk_3 (dk_at dksX10_init_4 23 rfl rfl)
theorem dX10_init_119 : decode cX10_init 119 = .ok (.iastore, 1) := dk_79 (dk_at dksX10_init_5 0 rfl rfl)
theorem dX10_init_120 : decode cX10_init 120 = .ok (.dup, 1) := dk_89 (dk_at dksX10_init_5 1 rfl rfl)
theorem dX10_init_121 : decode cX10_init 121 = .ok (.bipush 6, 2) := dk_16 6 (dk_at dksX10_init_5 2 rfl rfl)
theorem dX10_init_123 : decode cX10_init 123 = .ok (.iconst 1, 1) := dk_4 (dk_at dksX10_init_5 4 rfl rfl)
theorem dX10_init_124 : decode cX10_init 124 = .ok (.iastore, 1) := dk_79 (dk_at dksX10_init_5 5 rfl rfl)
theorem dX10_init_125 : decode cX10_init 125 = .ok (.dup, 1) := dk_89 (dk_at dksX10_init_5 6 rfl rfl)
theorem dX10_init_126 : decode cX10_init 126 = .ok (.bipush 7, 2) := dk_16 7 (dk_at dksX10_init_5 7 rfl rfl)
theorem dX10_init_128 : decode cX10_init 128 = .ok (.iconst 1, 1) := dk_4 (dk_at dksX10_init_5 9 rfl rfl)
theorem dX10_init_129 : decode cX10_init 129 = .ok (.iastore, 1) := dk_79 (dk_at dksX10_init_5 10 rfl rfl)
theorem dX10_init_130 : decode cX10_init 130 = .ok (.dup, 1) := dk_89 (dk_at dksX10_init_5 11 rfl rfl)
theorem dX10_init_131 : decode cX10_init 131 = .ok (.bipush 8, 2) := dk_16 8 (dk_at dksX10_init_5 12 rfl rfl)
theorem dX10_init_133 : decode cX10_init 133 = .ok (.iconst 0, 1) := dk_3 (dk_at dksX10_init_5 14 rfl rfl)
theorem dX10_init_134 : decode cX10_init 134 = .ok (.iastore, 1) := dk_79 (dk_at dksX10_init_5 15 rfl rfl)
theorem dX10_init_135 : decode cX10_init 135 = .ok (.dup, 1) := dk_89 (dk_at dksX10_init_5 16 rfl rfl)
theorem dX10_init_136 : decode cX10_init 136 = .ok (.bipush 9, 2) := dk_16 9 (dk_at dksX10_init_5 17 rfl rfl)
theorem dX10_init_138 : decode cX10_init 138 = .ok (.iconst 0, 1) := dk_3 (dk_at dksX10_init_5 19 rfl rfl)
theorem dX10_init_139 : decode cX10_init 139 = .ok (.iastore, 1) := dk_79 (dk_at dksX10_init_5 20 rfl rfl)
theorem dX10_init_140 : decode cX10_init 140 = .ok (.dup, 1) := dk_89 (dk_at dksX10_init_5 21 rfl rfl)
theorem dX10_init_141 : decode cX10_init 141 = .ok (.bipush 10, 2) := dk_16 10 (dk_at dksX10_init_5 22 rfl rfl)
theorem dX10_init_143 : decode cX10_init 143 = .ok (.iconst 0, 1) := dk_3 (dk_at dksX10_init_6 0 rfl rfl)
theorem dX10_init_144 : decode cX10_init 144 = .ok (.iastore, 1) := dk_79 (dk_at dksX10_init_6 1 rfl rfl)
theorem dX10_init_145 : decode cX10_init 145 = .ok (.dup, 1) := dk_89 (dk_at dksX10_init_6 2 rfl rfl)
theorem dX10_init_146 : decode cX10_init 146 = .ok (.bipush 11, 2) := dk_16 11 (dk_at dksX10_init_6 3 rfl rfl)
theorem dX10_init_148 : decode cX10_init 148 = .ok (.iconst 0, 1) := dk_3 (dk_at dksX10_init_6 5 rfl rfl)
theorem dX10_init_149 : decode cX10_init 149 = .ok (.iastore, 1) := dk_79 (dk_at dksX10_init_6 6 rfl rfl)
theorem dX10_init_150 : decode cX10_init 150 = .ok (.dup, 1) := dk_89 (dk_at dksX10_init_6 7 rfl rfl)
theorem dX10_init_151 : decode cX10_init 151 = .ok (.bipush 12, 2) := dk_16 12 (dk_at dksX10_init_6 8 rfl rfl)
theorem dX10_init_153 : decode cX10_init 153 = .ok (.iconst 0, 1) := dk_3 (dk_at dksX10_init_6 10 rfl rfl)
theorem dX10_init_154 : decode cX10_init 154 = .ok (.iastore, 1) := dk_79 (dk_at dksX10_init_6 11 rfl rfl)
theorem dX10_init_155 : decode cX10_init 155 = .ok (.dup, 1) := dk_89 (dk_at dksX10_init_6 12 rfl rfl)
theorem dX10_init_156 : decode cX10_init 156 = .ok (.bipush 13, 2) := dk_16 13 (dk_at dksX10_init_6 13 rfl rfl)
theorem dX10_init_158 : decode cX10_init 158 = .ok (.iconst 0, 1) := dk_3 (dk_at dksX10_init_6 15 rfl rfl)
theorem dX10_init_159 : decode cX10_init 159 = .ok (.iastore, 1) := dk_79 (dk_at dksX10_init_6 16 rfl rfl)
theorem dX10_init_160 : decode cX10_init 160 = .ok (.dup, 1) := dk_89 (dk_at dksX10_init_6 17 rfl rfl)
theorem dX10_init_161 : decode cX10_init 161 = .ok (.bipush 14, 2) := dk_16 14 (dk_at dksX10_init_6 18 rfl rfl)
theorem dX10_init_163 : decode cX10_init 163 = .ok (.iconst 0, 1) := dk_3 (dk_at dksX10_init_6 20 rfl rfl)
theorem dX10_init_164 : decode cX10_init 164 = .ok (.iastore, 1) := dk_79 (dk_at dksX10_init_6 21 rfl rfl)
theorem dX10_init_165 : decode cX10_init 165 = .ok (.dup, 1) := dk_89 (dk_at dksX10_init_6 22 rfl rfl)
theorem dX10_init_166 : decode cX10_init 166 = .ok (.bipush 15, 2) := dk_16 15 (dk_at dksX10_init_7 0 rfl rfl)
theorem dX10_init_168 : decode cX10_init 168 = .ok (.iconst 0, 1) := dk_3 (dk_at dksX10_init_7 2 rfl rfl)
theorem dX10_init_169 : decode cX10_init 169 = .ok (.iastore, 1) := dk_79 (dk_at dksX10_init_7 3 rfl rfl)
theorem dX10_init_170 : decode cX10_init 170 = .ok (.dup, 1) := dk_89 (dk_at dksX10_init_7 4 rfl rfl)
theorem dX10_init_171 : decode cX10_init 171 = .ok (.bipush 16, 2) := dk_16 16 (dk_at dksX10_init_7 5 rfl rfl)
theorem dX10_init_173 : decode cX10_init 173 = .ok (.iconst 0, 1) := dk_3 (dk_at dksX10_init_7 7 rfl rfl)
theorem dX10_init_174 : decode cX10_init 174 = .ok (.iastore, 1) := dk_79 (dk_at dksX10_init_7 8 rfl rfl)
theorem dX10_init_175 : decode cX10_init 175 = .ok (.dup, 1) := dk_89 (dk_at dksX10_init_7 9 rfl rfl)
theorem dX10_init_176 : decode cX10_init 176 = .ok (.bipush 17, 2) := dk_16 17 (dk_at dksX10_init_7 10 rfl rfl)
theorem dX10_init_178 : decode cX10_init 178 = .ok (.iconst 0, 1) := dk_3 (dk_at dksX10_init_7 12 rfl rfl)
theorem dX10_init_179 : decode cX10_init 179 = .ok (.iastore, 1) := dk_79 (dk_at dksX10_init_7 13 rfl rfl)
theorem dX10_init_180 : decode cX10_init 180 = .ok (.dup, 1) := dk_89 (dk_at dksX10_init_7 14 rfl rfl)
theorem dX10_init_181 : decode cX10_init 181 = .ok (.bipush 18, 2) := dk_16 18 (dk_at dksX10_init_7 15 rfl rfl)
theorem dX10_init_183 : decode cX10_init 183 = .ok (.iconst 0, 1) := dk_3 (dk_at dksX10_init_7 17 rfl rfl)
theorem dX10_init_184 : decode cX10_init 184 = .ok (.iastore, 1) := dk_79 (dk_at dksX10_init_7 18 rfl rfl)
theorem dX10_init_185 : decode cX10_init 185 = .ok (.dup, 1) := dk_89 (dk_at dksX10_init_7 19 rfl rfl)
theorem dX10_init_186 : decode cX10_init 186 = .ok (.bipush 19, 2) := dk_16 19 (dk_at dksX10_init_7 20 rfl rfl)
theorem dX10_init_188 : decode cX10_init 188 = .ok (.iconst 0, 1) := dk_3 (dk_at dksX10_init_7 22 rfl rfl)
theorem dX10_init_189 : decode cX10_init 189 = .ok (.iastore, 1) := dk_79 (dk_at dksX10_init_7 23 rfl rfl)
theorem dX10_init_190 : decode cX10_init 190 = .ok (.putfield 44, 3) := dk_181 0 44 (dk_at dksX10_init_8 0 rfl rfl)
theorem dX10_init_193 : decode cX10_init 193 = .ok (.aload_n 0, 1) := dk_42 (dk_at dksX10_init_8 3 rfl rfl)
theorem dX10_init_194 : decode cX10_init 194 = .ok (.bipush 32, 2) := dk_16 32 (dk_at dksX10_init_8 4 rfl rfl)
theorem dX10_init_196 : decode cX10_init 196 = .ok (.newarray .int, 2) := dk_188_10 (dk_at dksX10_init_8 6 rfl rfl)
theorem dX10_init_198 : decode cX10_init 198 = .ok (.putfield 48, 3) := dk_181 0 48 (dk_at dksX10_init_8 8 rfl rfl)
theorem dX10_init_201 : decode cX10_init 201 = .ok (.aload_n 0, 1) := dk_42 (dk_at dksX10_init_8 11 rfl rfl)
theorem dX10_init_202 : decode cX10_init 202 = .ok (.sipush 1400, 3) := dk_17 5 120 (dk_at dksX10_init_8 12 rfl rfl)
theorem dX10_init_205 : decode cX10_init 205 = .ok (.newarray .int, 2) := dk_188_10 (dk_at dksX10_init_8 15 rfl rfl)
theorem dX10_init_207 : decode cX10_init 207 = .ok (.putfield 50, 3) := dk_181 0 50 (dk_at dksX10_init_8 17 rfl rfl)
theorem dX10_init_210 : decode cX10_init 210 = .ok (.aload_n 0, 1) := dk_42 (dk_at dksX10_init_8 20 rfl rfl)
theorem dX10_init_211 : decode cX10_init 211 = .ok (.sipush 1400, 3) := dk_17 5 120 (dk_at dksX10_init_8 21 rfl rfl)
theorem dX10_init_214 : decode cX10_init 214 = .ok (.newarray .int, 2) := dk_188_10 (dk_at dksX10_init_9 0 rfl rfl)
theorem dX10_init_216 : decode cX10_init 216 = .ok (.putfield 53, 3) := dk_181 0 53 (dk_at dksX10_init_9 2 rfl rfl)
theorem dX10_init_219 : decode cX10_init 219 = .ok (.aload_n 0, 1) := dk_42 (dk_at dksX10_init_9 5 rfl rfl)
theorem dX10_init_220 : decode cX10_init 220 = .ok (.iconst 3, 1) := dk_6 (dk_at dksX10_init_9 6 rfl rfl)
theorem dX10_init_221 : decode cX10_init 221 = .ok (.newarray .int, 2) := dk_188_10 (dk_at dksX10_init_9 7 rfl rfl)
theorem dX10_init_223 : decode cX10_init 223 = .ok (.putfield 56, 3) := dk_181 0 56 (dk_at dksX10_init_9 9 rfl rfl)
theorem dX10_init_226 : decode cX10_init 226 = .ok (.aload_n 0, 1) := dk_42 (dk_at dksX10_init_9 12 rfl rfl)
theorem dX10_init_227 : decode cX10_init 227 = .ok (.sipush 665, 3) := dk_17 2 153 (dk_at dksX10_init_9 13 rfl rfl)
theorem dX10_init_230 : decode cX10_init 230 = .ok (.newarray .int, 2) := dk_188_10 (dk_at dksX10_init_9 16 rfl rfl)
theorem dX10_init_232 : decode cX10_init 232 = .ok (.putfield 59, 3) := dk_181 0 59 (dk_at dksX10_init_9 18 rfl rfl)
theorem dX10_init_235 : decode cX10_init 235 = .ok (.aload_n 0, 1) := dk_42 (dk_at dksX10_init_9 21 rfl rfl)
theorem dX10_init_236 : decode cX10_init 236 = .ok (.sipush 700, 3) := dk_17 2 188 (dk_at dksX10_init_10 0 rfl rfl)
theorem dX10_init_239 : decode cX10_init 239 = .ok (.newarray .int, 2) := dk_188_10 (dk_at dksX10_init_10 3 rfl rfl)
theorem dX10_init_241 : decode cX10_init 241 = .ok (.putfield 62, 3) := dk_181 0 62 (dk_at dksX10_init_10 5 rfl rfl)
theorem dX10_init_244 : decode cX10_init 244 = .ok (.aload_n 0, 1) := dk_42 (dk_at dksX10_init_10 8 rfl rfl)
theorem dX10_init_245 : decode cX10_init 245 = .ok (.iconst (-1), 1) := dk_2 (dk_at dksX10_init_10 9 rfl rfl)
theorem dX10_init_246 : decode cX10_init 246 = .ok (.putfield 65, 3) := dk_181 0 65 (dk_at dksX10_init_10 10 rfl rfl)
theorem dX10_init_249 : decode cX10_init 249 = .ok (.aload_n 0, 1) := dk_42 (dk_at dksX10_init_10 13 rfl rfl)
theorem dX10_init_250 : decode cX10_init 250 = .ok (.iconst 4, 1) := dk_7 (dk_at dksX10_init_10 14 rfl rfl)
theorem dX10_init_251 : decode cX10_init 251 = .ok (.newarray .int, 2) := dk_188_10 (dk_at dksX10_init_10 15 rfl rfl)
theorem dX10_init_253 : decode cX10_init 253 = .ok (.putfield 69, 3) := dk_181 0 69 (dk_at dksX10_init_10 17 rfl rfl)
theorem dX10_init_256 : decode cX10_init 256 = .ok (.aload_n 0, 1) := dk_42 (dk_at dksX10_init_10 20 rfl rfl)
theorem dX10_init_257 : decode cX10_init 257 = .ok (.bipush 64, 2) := dk_16 64 (dk_at dksX10_init_10 21 rfl rfl)
theorem dX10_init_259 : decode cX10_init 259 = .ok (.newarray .int, 2) := dk_188_10 (dk_at dksX10_init_11 0 rfl rfl)
theorem dX10_init_261 : decode cX10_init 261 = .ok (.putfield 72, 3) := dk_181 0 72 (dk_at dksX10_init_11 2 rfl rfl)
theorem dX10_init_264 : decode cX10_init 264 = .ok (.aload_n 0, 1) := dk_42 (dk_at dksX10_init_11 5 rfl rfl)
theorem dX10_init_265 : decode cX10_init 265 = .ok (.sipush 8192, 3) := dk_17 32 0 (dk_at dksX10_init_11 6 rfl rfl)
theorem dX10_init_268 : decode cX10_init 268 = .ok (.newarray .int, 2) := dk_188_10 (dk_at dksX10_init_11 9 rfl rfl)
theorem dX10_init_270 : decode cX10_init 270 = .ok (.putfield 75, 3) := dk_181 0 75 (dk_at dksX10_init_11 11 rfl rfl)
theorem dX10_init_273 : decode cX10_init 273 = .ok (.aload_n 0, 1) := dk_42 (dk_at dksX10_init_11 14 rfl rfl)
theorem dX10_init_274 : decode cX10_init 274 = .ok (.sipush 2048, 3) := dk_17 8 0 (dk_at dksX10_init_11 15 rfl rfl)
theorem dX10_init_277 : decode cX10_init 277 = .ok (.newarray .int, 2) := dk_188_10 (dk_at dksX10_init_11 18 rfl rfl)
theorem dX10_init_279 : decode cX10_init 279 = .ok (.putfield 78, 3) := dk_181 0 78 (dk_at dksX10_init_11 20 rfl rfl)
theorem dX10_init_282 : decode cX10_init 282 = .ok (.aload_n 0, 1) := dk_42 (dk_at dksX10_init_11 23 rfl rfl)
theorem dX10_init_283 : decode cX10_init 283 = .ok (.sipush 2048, 3) := dk_17 8 0 (dk_at dksX10_init_12 0 rfl rfl)
theorem dX10_init_286 : decode cX10_init 286 = .ok (.newarray .boolean, 2) := dk_188_4 (dk_at dksX10_init_12 3 rfl rfl)
theorem dX10_init_288 : decode cX10_init 288 = .ok (.putfield 81, 3) := dk_181 0 81 (dk_at dksX10_init_12 5 rfl rfl)
theorem dX10_init_291 : decode cX10_init 291 = .ok (.aload_n 0, 1) := dk_42 (dk_at dksX10_init_12 8 rfl rfl)
theorem dX10_init_292 : decode cX10_init 292 = .ok (.sipush 26600, 3) := dk_17 103 232 (dk_at dksX10_init_12 9 rfl rfl)
theorem dX10_init_295 : decode cX10_init 295 = .ok (.newarray .int, 2) := dk_188_10 (dk_at dksX10_init_12 12 rfl rfl)
theorem dX10_init_297 : decode cX10_init 297 = .ok (.putfield 85, 3) := dk_181 0 85 (dk_at dksX10_init_12 14 rfl rfl)
theorem dX10_init_300 : decode cX10_init 300 = .ok (.aload_n 0, 1) := dk_42 (dk_at dksX10_init_12 17 rfl rfl)
theorem dX10_init_301 : decode cX10_init 301 = .ok (.sipush 665, 3) := dk_17 2 153 (dk_at dksX10_init_12 18 rfl rfl)
theorem dX10_init_304 : decode cX10_init 304 = .ok (.newarray .int, 2) := dk_188_10 (dk_at dksX10_init_12 21 rfl rfl)
theorem dX10_init_306 : decode cX10_init 306 = .ok (.putfield 88, 3) := dk_181 0 88 (dk_at dksX10_init_13 0 rfl rfl)
theorem dX10_init_309 : decode cX10_init 309 = .ok (.aload_n 0, 1) := dk_42 (dk_at dksX10_init_13 3 rfl rfl)
theorem dX10_init_310 : decode cX10_init 310 = .ok (.sipush 441, 3) := dk_17 1 185 (dk_at dksX10_init_13 4 rfl rfl)
theorem dX10_init_313 : decode cX10_init 313 = .ok (.newarray .int, 2) := dk_188_10 (dk_at dksX10_init_13 7 rfl rfl)
theorem dX10_init_315 : decode cX10_init 315 = .ok (.putfield 91, 3) := dk_181 0 91 (dk_at dksX10_init_13 9 rfl rfl)
theorem dX10_init_318 : decode cX10_init 318 = .ok (.aload_n 0, 1) := dk_42 (dk_at dksX10_init_13 12 rfl rfl)
theorem dX10_init_319 : decode cX10_init 319 = .ok (.bipush 8, 2) := dk_16 8 (dk_at dksX10_init_13 13 rfl rfl)
theorem dX10_init_321 : decode cX10_init 321 = .ok (.newarray .int, 2) := dk_188_10 (dk_at dksX10_init_13 15 rfl rfl)
theorem dX10_init_323 : decode cX10_init 323 = .ok (.putfield 94, 3) := dk_181 0 94 (dk_at dksX10_init_13 17 rfl rfl)
theorem dX10_init_326 : decode cX10_init 326 = .ok (.aload_n 0, 1) := dk_42 (dk_at dksX10_init_13 20 rfl rfl)
theorem dX10_init_327 : decode cX10_init 327 = .ok (.bipush 8, 2) := dk_16 8 (dk_at dksX10_init_13 21 rfl rfl)
theorem dX10_init_329 : decode cX10_init 329 = .ok (.newarray .int, 2) := dk_188_10 (dk_at dksX10_init_14 0 rfl rfl)
theorem dX10_init_331 : decode cX10_init 331 = .ok (.putfield 97, 3) := dk_181 0 97 (dk_at dksX10_init_14 2 rfl rfl)
theorem dX10_init_334 : decode cX10_init 334 = .ok (.aload_n 0, 1) := dk_42 (dk_at dksX10_init_14 5 rfl rfl)
theorem dX10_init_335 : decode cX10_init 335 = .ok (.sipush 199, 3) := dk_17 0 199 (dk_at dksX10_init_14 6 rfl rfl)
theorem dX10_init_338 : decode cX10_init 338 = .ok (.newarray .int, 2) := dk_188_10 (dk_at dksX10_init_14 9 rfl rfl)
theorem dX10_init_340 : decode cX10_init 340 = .ok (.putfield 100, 3) := dk_181 0 100 (dk_at dksX10_init_14 11 rfl rfl)
theorem dX10_init_343 : decode cX10_init 343 = .ok (.aload_n 0, 1) := dk_42 (dk_at dksX10_init_14 14 rfl rfl)
theorem dX10_init_344 : decode cX10_init 344 = .ok (.sipush 995, 3) := dk_17 3 227 (dk_at dksX10_init_14 15 rfl rfl)
theorem dX10_init_347 : decode cX10_init 347 = .ok (.newarray .int, 2) := dk_188_10 (dk_at dksX10_init_14 18 rfl rfl)
theorem dX10_init_349 : decode cX10_init 349 = .ok (.putfield 103, 3) := dk_181 0 103 (dk_at dksX10_init_14 20 rfl rfl)
theorem dX10_init_352 : decode cX10_init 352 = .ok (.aload_n 0, 1) := dk_42 (dk_at dksX10_init_14 23 rfl rfl)
theorem dX10_init_353 : decode cX10_init 353 = .ok (.sipush 665, 3) := dk_17 2 153 (dk_at dksX10_init_15 0 rfl rfl)
theorem dX10_init_356 : decode cX10_init 356 = .ok (.newarray .int, 2) := dk_188_10 (dk_at dksX10_init_15 3 rfl rfl)
theorem dX10_init_358 : decode cX10_init 358 = .ok (.putfield 106, 3) := dk_181 0 106 (dk_at dksX10_init_15 5 rfl rfl)
theorem dX10_init_361 : decode cX10_init 361 = .ok (.aload_n 0, 1) := dk_42 (dk_at dksX10_init_15 8 rfl rfl)
theorem dX10_init_362 : decode cX10_init 362 = .ok (.sipush 26600, 3) := dk_17 103 232 (dk_at dksX10_init_15 9 rfl rfl)
theorem dX10_init_365 : decode cX10_init 365 = .ok (.newarray .int, 2) := dk_188_10 (dk_at dksX10_init_15 12 rfl rfl)
theorem dX10_init_367 : decode cX10_init 367 = .ok (.putfield 109, 3) := dk_181 0 109 (dk_at dksX10_init_15 14 rfl rfl)
theorem dX10_init_370 : decode cX10_init 370 = .ok (.aload_n 0, 1) := dk_42 (dk_at dksX10_init_15 17 rfl rfl)
theorem dX10_init_371 : decode cX10_init 371 = .ok (.bipush 8, 2) := dk_16 8 (dk_at dksX10_init_15 18 rfl rfl)
theorem dX10_init_373 : decode cX10_init 373 = .ok (.newarray .int, 2) := dk_188_10 (dk_at dksX10_init_15 20 rfl rfl)
theorem dX10_init_375 : decode cX10_init 375 = .ok (.putfield 112, 3) := dk_181 0 112 (dk_at dksX10_init_16 0 rfl rfl)
theorem dX10_init_378 : decode cX10_init 378 = .ok (.aload_n 0, 1) := dk_42 (dk_at dksX10_init_16 3 rfl rfl)
theorem dX10_init_379 : decode cX10_init 379 = .ok (.bipush 8, 2) := dk_16 8 (dk_at dksX10_init_16 4 rfl rfl)
theorem dX10_init_381 : decode cX10_init 381 = .ok (.newarray .int, 2) := dk_188_10 (dk_at dksX10_init_16 6 rfl rfl)
theorem dX10_init_383 : decode cX10_init 383 = .ok (.putfield 115, 3) := dk_181 0 115 (dk_at dksX10_init_16 8 rfl rfl)
theorem dX10_init_386 : decode cX10_init 386 = .ok (.aload_n 0, 1) := dk_42 (dk_at dksX10_init_16 11 rfl rfl)
theorem dX10_init_387 : decode cX10_init 387 = .ok (.iconst 3, 1) := dk_6 (dk_at dksX10_init_16 12 rfl rfl)
theorem dX10_init_388 : decode cX10_init 388 = .ok (.newarray .int, 2) := dk_188_10 (dk_at dksX10_init_16 13 rfl rfl)
theorem dX10_init_390 : decode cX10_init 390 = .ok (.putfield 118, 3) := dk_181 0 118 (dk_at dksX10_init_16 15 rfl rfl)
theorem dX10_init_393 : decode cX10_init 393 = .ok (.return_, 1) := dk_177 (dk_at dksX10_init_16 18 rfl rfl)
abbrev cX10_thrown : ByteArray := prog_22_method_2_code
def yX10_thrown : MethodName := ⟨RX10, "thrown", "()I"⟩
theorem dX10_thrown_0 : decode cX10_thrown 0 = .ok (.aload_n 0, 1) := by decide +kernel
theorem dX10_thrown_1 : decode cX10_thrown 1 = .ok (.getfield 121, 3) := by decide +kernel
theorem dX10_thrown_4 : decode cX10_thrown 4 = .ok (.ireturn, 1) := by decide +kernel
abbrev cX10_feed : ByteArray := prog_22_method_7_code
def yX10_feed : MethodName := ⟨RX10, "feed", "(IIIII)I"⟩
def dkwX10_feed_5 : List UInt8 := [167, 255, 162, 42, 180, 0, 133, 172]
abbrev dktX10_feed_5 : List UInt8 := dkwX10_feed_5 ++ []
def dkwX10_feed_4 : List UInt8 := [112, 104, 100, 122, 17, 0, 255, 126, 79, 42, 89, 180, 0, 133, 4, 96, 181, 0, 133, 132, 6, 1]
abbrev dktX10_feed_4 : List UInt8 := dkwX10_feed_4 ++ dktX10_feed_5
def dkwX10_feed_3 : List UInt8 := [167, 0, 5, 21, 5, 54, 7, 42, 180, 0, 62, 42, 180, 0, 133, 21, 7, 16, 24, 16, 8, 21, 6, 7]
abbrev dktX10_feed_3 : List UInt8 := dkwX10_feed_3 ++ dktX10_feed_4
def dkwX10_feed_2 : List UInt8 := [28, 167, 0, 28, 21, 6, 16, 12, 162, 0, 7, 29, 167, 0, 17, 21, 6, 16, 16, 162, 0, 8, 21, 4]
abbrev dktX10_feed_2 : List UInt8 := dkwX10_feed_2 ++ dktX10_feed_3
def dkwX10_feed_1 : List UInt8 := [21, 6, 16, 20, 162, 0, 93, 21, 6, 7, 162, 0, 7, 27, 167, 0, 39, 21, 6, 16, 8, 162, 0, 7]
abbrev dktX10_feed_1 : List UInt8 := dkwX10_feed_1 ++ dktX10_feed_2
def dkwX10_feed_0 : List UInt8 := [42, 3, 181, 0, 121, 42, 180, 0, 133, 16, 20, 96, 17, 2, 188, 164, 0, 5, 2, 172, 3, 54, 6]
abbrev dktX10_feed_0 : List UInt8 := dkwX10_feed_0 ++ dktX10_feed_1
theorem dksX10_feed_0 : cX10_feed.data.toList.drop 0 = dktX10_feed_0 := by decide +kernel
theorem dksX10_feed_1 : cX10_feed.data.toList.drop 23 = dktX10_feed_1 := dk_seg dksX10_feed_0 23 rfl rfl
theorem dksX10_feed_2 : cX10_feed.data.toList.drop 47 = dktX10_feed_2 := dk_seg dksX10_feed_1 24 rfl rfl
theorem dksX10_feed_3 : cX10_feed.data.toList.drop 71 = dktX10_feed_3 := dk_seg dksX10_feed_2 24 rfl rfl
theorem dksX10_feed_4 : cX10_feed.data.toList.drop 95 = dktX10_feed_4 := dk_seg dksX10_feed_3 24 rfl rfl
theorem dksX10_feed_5 : cX10_feed.data.toList.drop 117 = dktX10_feed_5 := dk_seg dksX10_feed_4 22 rfl rfl
theorem dX10_feed_0 : decode cX10_feed 0 = .ok (.aload_n 0, 1) := dk_42 (dk_at dksX10_feed_0 0 rfl rfl)
theorem dX10_feed_1 : decode cX10_feed 1 = .ok (.iconst 0, 1) := dk_3 (dk_at dksX10_feed_0 1 rfl rfl)
theorem dX10_feed_2 : decode cX10_feed 2 = .ok (.putfield 121, 3) := dk_181 0 121 (dk_at dksX10_feed_0 2 rfl rfl)
theorem dX10_feed_5 : decode cX10_feed 5 = .ok (.aload_n 0, 1) := dk_42 (dk_at dksX10_feed_0 5 rfl rfl)
theorem dX10_feed_6 : decode cX10_feed 6 = .ok (.getfield 133, 3) := dk_180 0 133 (dk_at dksX10_feed_0 6 rfl rfl)
theorem dX10_feed_9 : decode cX10_feed 9 = .ok (.bipush 20, 2) := dk_16 20 (dk_at dksX10_feed_0 9 rfl rfl)
theorem dX10_feed_11 : decode cX10_feed 11 = .ok (.iadd, 1) := dk_96 (dk_at dksX10_feed_0 11 rfl rfl)
theorem dX10_feed_12 : decode cX10_feed 12 = .ok (.sipush 700, 3) := dk_17 2 188 (dk_at dksX10_feed_0 12 rfl rfl)
theorem dX10_feed_15 : decode cX10_feed 15 = .ok (.if_icmp .le 5, 3) := dk_164 0 5 (dk_at dksX10_feed_0 15 rfl rfl)
theorem dX10_feed_18 : decode cX10_feed 18 = .ok (.iconst (-1), 1) := dk_2 (dk_at dksX10_feed_0 18 rfl rfl)
theorem dX10_feed_19 : decode cX10_feed 19 = .ok (.ireturn, 1) := dk_172 (dk_at dksX10_feed_0 19 rfl rfl)
theorem dX10_feed_20 : decode cX10_feed 20 = .ok (.iconst 0, 1) := dk_3 (dk_at dksX10_feed_0 20 rfl rfl)
theorem dX10_feed_21 : decode cX10_feed 21 = .ok (.istore 6, 2) := dk_54 6 (dk_at dksX10_feed_0 21 rfl rfl)
theorem dX10_feed_23 : decode cX10_feed 23 = .ok (.iload 6, 2) := dk_21 6 (dk_at dksX10_feed_1 0 rfl rfl)
theorem dX10_feed_25 : decode cX10_feed 25 = .ok (.bipush 20, 2) := dk_16 20 (dk_at dksX10_feed_1 2 rfl rfl)
theorem dX10_feed_27 : decode cX10_feed 27 = .ok (.if_icmp .ge 93, 3) := dk_162 0 93 (dk_at dksX10_feed_1 4 rfl rfl)
theorem dX10_feed_30 : decode cX10_feed 30 = .ok (.iload 6, 2) := dk_21 6 (dk_at dksX10_feed_1 7 rfl rfl)
theorem dX10_feed_32 : decode cX10_feed 32 = .ok (.iconst 4, 1) := dk_7 (dk_at dksX10_feed_1 9 rfl rfl)
theorem dX10_feed_33 : decode cX10_feed 33 = .ok (.if_icmp .ge 7, 3) := dk_162 0 7 (dk_at dksX10_feed_1 10 rfl rfl)
theorem dX10_feed_36 : decode cX10_feed 36 = .ok (.iload_n 1, 1) := dk_27 (dk_at dksX10_feed_1 13 rfl rfl)
theorem dX10_feed_37 : decode cX10_feed 37 = .ok (.goto 39, 3) := dk_167 0 39 (dk_at dksX10_feed_1 14 rfl rfl)
theorem dX10_feed_40 : decode cX10_feed 40 = .ok (.iload 6, 2) := dk_21 6 (dk_at dksX10_feed_1 17 rfl rfl)
theorem dX10_feed_42 : decode cX10_feed 42 = .ok (.bipush 8, 2) := dk_16 8 (dk_at dksX10_feed_1 19 rfl rfl)
theorem dX10_feed_44 : decode cX10_feed 44 = .ok (.if_icmp .ge 7, 3) := dk_162 0 7 (dk_at dksX10_feed_1 21 rfl rfl)
theorem dX10_feed_47 : decode cX10_feed 47 = .ok (.iload_n 2, 1) := dk_28 (dk_at dksX10_feed_2 0 rfl rfl)
theorem dX10_feed_48 : decode cX10_feed 48 = .ok (.goto 28, 3) := dk_167 0 28 (dk_at dksX10_feed_2 1 rfl rfl)
theorem dX10_feed_51 : decode cX10_feed 51 = .ok (.iload 6, 2) := dk_21 6 (dk_at dksX10_feed_2 4 rfl rfl)
theorem dX10_feed_53 : decode cX10_feed 53 = .ok (.bipush 12, 2) := dk_16 12 (dk_at dksX10_feed_2 6 rfl rfl)
theorem dX10_feed_55 : decode cX10_feed 55 = .ok (.if_icmp .ge 7, 3) := dk_162 0 7 (dk_at dksX10_feed_2 8 rfl rfl)
theorem dX10_feed_58 : decode cX10_feed 58 = .ok (.iload_n 3, 1) := dk_29 (dk_at dksX10_feed_2 11 rfl rfl)
theorem dX10_feed_59 : decode cX10_feed 59 = .ok (.goto 17, 3) := dk_167 0 17 (dk_at dksX10_feed_2 12 rfl rfl)
theorem dX10_feed_62 : decode cX10_feed 62 = .ok (.iload 6, 2) := dk_21 6 (dk_at dksX10_feed_2 15 rfl rfl)
theorem dX10_feed_64 : decode cX10_feed 64 = .ok (.bipush 16, 2) := dk_16 16 (dk_at dksX10_feed_2 17 rfl rfl)
theorem dX10_feed_66 : decode cX10_feed 66 = .ok (.if_icmp .ge 8, 3) := dk_162 0 8 (dk_at dksX10_feed_2 19 rfl rfl)
theorem dX10_feed_69 : decode cX10_feed 69 = .ok (.iload 4, 2) := dk_21 4 (dk_at dksX10_feed_2 22 rfl rfl)
theorem dX10_feed_71 : decode cX10_feed 71 = .ok (.goto 5, 3) := dk_167 0 5 (dk_at dksX10_feed_3 0 rfl rfl)
theorem dX10_feed_74 : decode cX10_feed 74 = .ok (.iload 5, 2) := dk_21 5 (dk_at dksX10_feed_3 3 rfl rfl)
theorem dX10_feed_76 : decode cX10_feed 76 = .ok (.istore 7, 2) := dk_54 7 (dk_at dksX10_feed_3 5 rfl rfl)
theorem dX10_feed_78 : decode cX10_feed 78 = .ok (.aload_n 0, 1) := dk_42 (dk_at dksX10_feed_3 7 rfl rfl)
theorem dX10_feed_79 : decode cX10_feed 79 = .ok (.getfield 62, 3) := dk_180 0 62 (dk_at dksX10_feed_3 8 rfl rfl)
theorem dX10_feed_82 : decode cX10_feed 82 = .ok (.aload_n 0, 1) := dk_42 (dk_at dksX10_feed_3 11 rfl rfl)
theorem dX10_feed_83 : decode cX10_feed 83 = .ok (.getfield 133, 3) := dk_180 0 133 (dk_at dksX10_feed_3 12 rfl rfl)
theorem dX10_feed_86 : decode cX10_feed 86 = .ok (.iload 7, 2) := dk_21 7 (dk_at dksX10_feed_3 15 rfl rfl)
theorem dX10_feed_88 : decode cX10_feed 88 = .ok (.bipush 24, 2) := dk_16 24 (dk_at dksX10_feed_3 17 rfl rfl)
theorem dX10_feed_90 : decode cX10_feed 90 = .ok (.bipush 8, 2) := dk_16 8 (dk_at dksX10_feed_3 19 rfl rfl)
theorem dX10_feed_92 : decode cX10_feed 92 = .ok (.iload 6, 2) := dk_21 6 (dk_at dksX10_feed_3 21 rfl rfl)
theorem dX10_feed_94 : decode cX10_feed 94 = .ok (.iconst 4, 1) := dk_7 (dk_at dksX10_feed_3 23 rfl rfl)
theorem dX10_feed_95 : decode cX10_feed 95 = .ok (.irem, 1) := dk_112 (dk_at dksX10_feed_4 0 rfl rfl)
theorem dX10_feed_96 : decode cX10_feed 96 = .ok (.imul, 1) := dk_104 (dk_at dksX10_feed_4 1 rfl rfl)
theorem dX10_feed_97 : decode cX10_feed 97 = .ok (.isub, 1) := dk_100 (dk_at dksX10_feed_4 2 rfl rfl)
theorem dX10_feed_98 : decode cX10_feed 98 = .ok (.ishr, 1) := dk_122 (dk_at dksX10_feed_4 3 rfl rfl)
theorem dX10_feed_99 : decode cX10_feed 99 = .ok (.sipush 255, 3) := dk_17 0 255 (dk_at dksX10_feed_4 4 rfl rfl)
theorem dX10_feed_102 : decode cX10_feed 102 = .ok (.iand, 1) := dk_126 (dk_at dksX10_feed_4 7 rfl rfl)
theorem dX10_feed_103 : decode cX10_feed 103 = .ok (.iastore, 1) := dk_79 (dk_at dksX10_feed_4 8 rfl rfl)
theorem dX10_feed_104 : decode cX10_feed 104 = .ok (.aload_n 0, 1) := dk_42 (dk_at dksX10_feed_4 9 rfl rfl)
theorem dX10_feed_105 : decode cX10_feed 105 = .ok (.dup, 1) := dk_89 (dk_at dksX10_feed_4 10 rfl rfl)
theorem dX10_feed_106 : decode cX10_feed 106 = .ok (.getfield 133, 3) := dk_180 0 133 (dk_at dksX10_feed_4 11 rfl rfl)
theorem dX10_feed_109 : decode cX10_feed 109 = .ok (.iconst 1, 1) := dk_4 (dk_at dksX10_feed_4 14 rfl rfl)
theorem dX10_feed_110 : decode cX10_feed 110 = .ok (.iadd, 1) := dk_96 (dk_at dksX10_feed_4 15 rfl rfl)
theorem dX10_feed_111 : decode cX10_feed 111 = .ok (.putfield 133, 3) := dk_181 0 133 (dk_at dksX10_feed_4 16 rfl rfl)
theorem dX10_feed_114 : decode cX10_feed 114 = .ok (.iinc 6 1, 3) := dk_132 6 1 (dk_at dksX10_feed_4 19 rfl rfl)
theorem dX10_feed_117 : decode cX10_feed 117 = .ok (.goto (-94), 3) := dk_167 255 162 (dk_at dksX10_feed_5 0 rfl rfl)
theorem dX10_feed_120 : decode cX10_feed 120 = .ok (.aload_n 0, 1) := dk_42 (dk_at dksX10_feed_5 3 rfl rfl)
theorem dX10_feed_121 : decode cX10_feed 121 = .ok (.getfield 133, 3) := dk_180 0 133 (dk_at dksX10_feed_5 4 rfl rfl)
theorem dX10_feed_124 : decode cX10_feed 124 = .ok (.ireturn, 1) := dk_172 (dk_at dksX10_feed_5 7 rfl rfl)
abbrev cX10_line : ByteArray := prog_22_method_30_code
def yX10_line : MethodName := ⟨RX10, "line", "(I)I"⟩
def dkwX10_line_4 : List UInt8 := [180, 0, 56, 3, 92, 46, 4, 96, 79, 42, 180, 0, 168, 172, 42, 182, 1, 3, 3, 172]
abbrev dktX10_line_4 : List UInt8 := dkwX10_line_4 ++ []
def dkwX10_line_3 : List UInt8 := [28, 182, 1, 0, 61, 167, 255, 236, 42, 180, 0, 168, 153, 0, 26, 42, 42, 180, 0, 171, 181, 0, 65, 42]
abbrev dktX10_line_3 : List UInt8 := dkwX10_line_3 ++ dktX10_line_4
def dkwX10_line_2 : List UInt8 := [182, 0, 253, 42, 182, 0, 193, 3, 61, 42, 180, 0, 168, 154, 0, 19, 42, 180, 0, 148, 153, 0, 12, 42]
abbrev dktX10_line_2 : List UInt8 := dkwX10_line_2 ++ dktX10_line_3
def dkwX10_line_1 : List UInt8 := [181, 0, 133, 42, 27, 181, 0, 136, 42, 3, 181, 0, 138, 42, 3, 181, 0, 168, 42, 2, 181, 0, 65, 42]
abbrev dktX10_line_1 : List UInt8 := dkwX10_line_1 ++ dktX10_line_2
def dkwX10_line_0 : List UInt8 := [42, 182, 0, 247, 27, 155, 0, 11, 27, 42, 180, 0, 133, 164, 0, 9, 42, 4, 182, 0, 250, 172, 42, 3]
abbrev dktX10_line_0 : List UInt8 := dkwX10_line_0 ++ dktX10_line_1
theorem dksX10_line_0 : cX10_line.data.toList.drop 0 = dktX10_line_0 := by decide +kernel
theorem dksX10_line_1 : cX10_line.data.toList.drop 24 = dktX10_line_1 := dk_seg dksX10_line_0 24 rfl rfl
theorem dksX10_line_2 : cX10_line.data.toList.drop 48 = dktX10_line_2 := dk_seg dksX10_line_1 24 rfl rfl
theorem dksX10_line_3 : cX10_line.data.toList.drop 72 = dktX10_line_3 := dk_seg dksX10_line_2 24 rfl rfl
theorem dksX10_line_4 : cX10_line.data.toList.drop 96 = dktX10_line_4 := dk_seg dksX10_line_3 24 rfl rfl
theorem dX10_line_0 : decode cX10_line 0 = .ok (.aload_n 0, 1) := dk_42 (dk_at dksX10_line_0 0 rfl rfl)
theorem dX10_line_1 : decode cX10_line 1 = .ok (.invokevirtual 247, 3) := dk_182 0 247 (dk_at dksX10_line_0 1 rfl rfl)
theorem dX10_line_4 : decode cX10_line 4 = .ok (.iload_n 1, 1) := dk_27 (dk_at dksX10_line_0 4 rfl rfl)
theorem dX10_line_5 : decode cX10_line 5 = .ok (.ifCond .lt 11, 3) := dk_155 0 11 (dk_at dksX10_line_0 5 rfl rfl)
theorem dX10_line_8 : decode cX10_line 8 = .ok (.iload_n 1, 1) := dk_27 (dk_at dksX10_line_0 8 rfl rfl)
theorem dX10_line_9 : decode cX10_line 9 = .ok (.aload_n 0, 1) := dk_42 (dk_at dksX10_line_0 9 rfl rfl)
theorem dX10_line_10 : decode cX10_line 10 = .ok (.getfield 133, 3) := dk_180 0 133 (dk_at dksX10_line_0 10 rfl rfl)
theorem dX10_line_13 : decode cX10_line 13 = .ok (.if_icmp .le 9, 3) := dk_164 0 9 (dk_at dksX10_line_0 13 rfl rfl)
theorem dX10_line_16 : decode cX10_line 16 = .ok (.aload_n 0, 1) := dk_42 (dk_at dksX10_line_0 16 rfl rfl)
theorem dX10_line_17 : decode cX10_line 17 = .ok (.iconst 1, 1) := dk_4 (dk_at dksX10_line_0 17 rfl rfl)
theorem dX10_line_18 : decode cX10_line 18 = .ok (.invokevirtual 250, 3) := dk_182 0 250 (dk_at dksX10_line_0 18 rfl rfl)
theorem dX10_line_21 : decode cX10_line 21 = .ok (.ireturn, 1) := dk_172 (dk_at dksX10_line_0 21 rfl rfl)
theorem dX10_line_22 : decode cX10_line 22 = .ok (.aload_n 0, 1) := dk_42 (dk_at dksX10_line_0 22 rfl rfl)
theorem dX10_line_23 : decode cX10_line 23 = .ok (.iconst 0, 1) := dk_3 (dk_at dksX10_line_0 23 rfl rfl)
theorem dX10_line_24 : decode cX10_line 24 = .ok (.putfield 133, 3) := dk_181 0 133 (dk_at dksX10_line_1 0 rfl rfl)
theorem dX10_line_27 : decode cX10_line 27 = .ok (.aload_n 0, 1) := dk_42 (dk_at dksX10_line_1 3 rfl rfl)
theorem dX10_line_28 : decode cX10_line 28 = .ok (.iload_n 1, 1) := dk_27 (dk_at dksX10_line_1 4 rfl rfl)
theorem dX10_line_29 : decode cX10_line 29 = .ok (.putfield 136, 3) := dk_181 0 136 (dk_at dksX10_line_1 5 rfl rfl)
theorem dX10_line_32 : decode cX10_line 32 = .ok (.aload_n 0, 1) := dk_42 (dk_at dksX10_line_1 8 rfl rfl)
theorem dX10_line_33 : decode cX10_line 33 = .ok (.iconst 0, 1) := dk_3 (dk_at dksX10_line_1 9 rfl rfl)
theorem dX10_line_34 : decode cX10_line 34 = .ok (.putfield 138, 3) := dk_181 0 138 (dk_at dksX10_line_1 10 rfl rfl)
theorem dX10_line_37 : decode cX10_line 37 = .ok (.aload_n 0, 1) := dk_42 (dk_at dksX10_line_1 13 rfl rfl)
theorem dX10_line_38 : decode cX10_line 38 = .ok (.iconst 0, 1) := dk_3 (dk_at dksX10_line_1 14 rfl rfl)
theorem dX10_line_39 : decode cX10_line 39 = .ok (.putfield 168, 3) := dk_181 0 168 (dk_at dksX10_line_1 15 rfl rfl)
theorem dX10_line_42 : decode cX10_line 42 = .ok (.aload_n 0, 1) := dk_42 (dk_at dksX10_line_1 18 rfl rfl)
theorem dX10_line_43 : decode cX10_line 43 = .ok (.iconst (-1), 1) := dk_2 (dk_at dksX10_line_1 19 rfl rfl)
theorem dX10_line_44 : decode cX10_line 44 = .ok (.putfield 65, 3) := dk_181 0 65 (dk_at dksX10_line_1 20 rfl rfl)
theorem dX10_line_47 : decode cX10_line 47 = .ok (.aload_n 0, 1) := dk_42 (dk_at dksX10_line_1 23 rfl rfl)
theorem dX10_line_48 : decode cX10_line 48 = .ok (.invokevirtual 253, 3) := dk_182 0 253 (dk_at dksX10_line_2 0 rfl rfl)
theorem dX10_line_51 : decode cX10_line 51 = .ok (.aload_n 0, 1) := dk_42 (dk_at dksX10_line_2 3 rfl rfl)
theorem dX10_line_52 : decode cX10_line 52 = .ok (.invokevirtual 193, 3) := dk_182 0 193 (dk_at dksX10_line_2 4 rfl rfl)
theorem dX10_line_55 : decode cX10_line 55 = .ok (.iconst 0, 1) := dk_3 (dk_at dksX10_line_2 7 rfl rfl)
theorem dX10_line_56 : decode cX10_line 56 = .ok (.istore_n 2, 1) := dk_61 (dk_at dksX10_line_2 8 rfl rfl)
theorem dX10_line_57 : decode cX10_line 57 = .ok (.aload_n 0, 1) := dk_42 (dk_at dksX10_line_2 9 rfl rfl)
theorem dX10_line_58 : decode cX10_line 58 = .ok (.getfield 168, 3) := dk_180 0 168 (dk_at dksX10_line_2 10 rfl rfl)
theorem dX10_line_61 : decode cX10_line 61 = .ok (.ifCond .ne 19, 3) := dk_154 0 19 (dk_at dksX10_line_2 13 rfl rfl)
theorem dX10_line_64 : decode cX10_line 64 = .ok (.aload_n 0, 1) := dk_42 (dk_at dksX10_line_2 16 rfl rfl)
theorem dX10_line_65 : decode cX10_line 65 = .ok (.getfield 148, 3) := dk_180 0 148 (dk_at dksX10_line_2 17 rfl rfl)
theorem dX10_line_68 : decode cX10_line 68 = .ok (.ifCond .eq 12, 3) := dk_153 0 12 (dk_at dksX10_line_2 20 rfl rfl)
theorem dX10_line_71 : decode cX10_line 71 = .ok (.aload_n 0, 1) := dk_42 (dk_at dksX10_line_2 23 rfl rfl)
theorem dX10_line_72 : decode cX10_line 72 = .ok (.iload_n 2, 1) := dk_28 (dk_at dksX10_line_3 0 rfl rfl)
theorem dX10_line_73 : decode cX10_line 73 = .ok (.invokevirtual 256, 3) := dk_182 1 0 (dk_at dksX10_line_3 1 rfl rfl)
theorem dX10_line_76 : decode cX10_line 76 = .ok (.istore_n 2, 1) := dk_61 (dk_at dksX10_line_3 4 rfl rfl)
theorem dX10_line_77 : decode cX10_line 77 = .ok (.goto (-20), 3) := dk_167 255 236 (dk_at dksX10_line_3 5 rfl rfl)
theorem dX10_line_80 : decode cX10_line 80 = .ok (.aload_n 0, 1) := dk_42 (dk_at dksX10_line_3 8 rfl rfl)
theorem dX10_line_81 : decode cX10_line 81 = .ok (.getfield 168, 3) := dk_180 0 168 (dk_at dksX10_line_3 9 rfl rfl)
theorem dX10_line_84 : decode cX10_line 84 = .ok (.ifCond .eq 26, 3) := dk_153 0 26 (dk_at dksX10_line_3 12 rfl rfl)
theorem dX10_line_87 : decode cX10_line 87 = .ok (.aload_n 0, 1) := dk_42 (dk_at dksX10_line_3 15 rfl rfl)
theorem dX10_line_88 : decode cX10_line 88 = .ok (.aload_n 0, 1) := dk_42 (dk_at dksX10_line_3 16 rfl rfl)
theorem dX10_line_89 : decode cX10_line 89 = .ok (.getfield 171, 3) := dk_180 0 171 (dk_at dksX10_line_3 17 rfl rfl)
theorem dX10_line_92 : decode cX10_line 92 = .ok (.putfield 65, 3) := dk_181 0 65 (dk_at dksX10_line_3 20 rfl rfl)
theorem dX10_line_95 : decode cX10_line 95 = .ok (.aload_n 0, 1) := dk_42 (dk_at dksX10_line_3 23 rfl rfl)
theorem dX10_line_96 : decode cX10_line 96 = .ok (.getfield 56, 3) := dk_180 0 56 (dk_at dksX10_line_4 0 rfl rfl)
theorem dX10_line_99 : decode cX10_line 99 = .ok (.iconst 0, 1) := dk_3 (dk_at dksX10_line_4 3 rfl rfl)
theorem dX10_line_100 : decode cX10_line 100 = .ok (.dup2, 1) := dk_92 (dk_at dksX10_line_4 4 rfl rfl)
theorem dX10_line_101 : decode cX10_line 101 = .ok (.iaload, 1) := dk_46 (dk_at dksX10_line_4 5 rfl rfl)
theorem dX10_line_102 : decode cX10_line 102 = .ok (.iconst 1, 1) := dk_4 (dk_at dksX10_line_4 6 rfl rfl)
theorem dX10_line_103 : decode cX10_line 103 = .ok (.iadd, 1) := dk_96 (dk_at dksX10_line_4 7 rfl rfl)
theorem dX10_line_104 : decode cX10_line 104 = .ok (.iastore, 1) := dk_79 (dk_at dksX10_line_4 8 rfl rfl)
theorem dX10_line_105 : decode cX10_line 105 = .ok (.aload_n 0, 1) := dk_42 (dk_at dksX10_line_4 9 rfl rfl)
theorem dX10_line_106 : decode cX10_line 106 = .ok (.getfield 168, 3) := dk_180 0 168 (dk_at dksX10_line_4 10 rfl rfl)
theorem dX10_line_109 : decode cX10_line 109 = .ok (.ireturn, 1) := dk_172 (dk_at dksX10_line_4 13 rfl rfl)
theorem dX10_line_110 : decode cX10_line 110 = .ok (.aload_n 0, 1) := dk_42 (dk_at dksX10_line_4 14 rfl rfl)
theorem dX10_line_111 : decode cX10_line 111 = .ok (.invokevirtual 259, 3) := dk_182 1 3 (dk_at dksX10_line_4 15 rfl rfl)
theorem dX10_line_114 : decode cX10_line 114 = .ok (.iconst 0, 1) := dk_3 (dk_at dksX10_line_4 18 rfl rfl)
theorem dX10_line_115 : decode cX10_line 115 = .ok (.ireturn, 1) := dk_172 (dk_at dksX10_line_4 19 rfl rfl)
abbrev cX10_ready : ByteArray := prog_22_method_33_code
def yX10_ready : MethodName := ⟨RX10, "ready", "()V"⟩
def dkwX10_ready_1 : List UInt8 := [182, 1, 3, 177]
abbrev dktX10_ready_1 : List UInt8 := dkwX10_ready_1 ++ []
def dkwX10_ready_0 : List UInt8 := [42, 3, 181, 0, 121, 42, 180, 1, 31, 153, 0, 4, 177, 42, 4, 181, 1, 31, 42, 182, 0, 253, 42]
abbrev dktX10_ready_0 : List UInt8 := dkwX10_ready_0 ++ dktX10_ready_1
theorem dksX10_ready_0 : cX10_ready.data.toList.drop 0 = dktX10_ready_0 := by decide +kernel
theorem dksX10_ready_1 : cX10_ready.data.toList.drop 23 = dktX10_ready_1 := dk_seg dksX10_ready_0 23 rfl rfl
theorem dX10_ready_0 : decode cX10_ready 0 = .ok (.aload_n 0, 1) := dk_42 (dk_at dksX10_ready_0 0 rfl rfl)
theorem dX10_ready_1 : decode cX10_ready 1 = .ok (.iconst 0, 1) := dk_3 (dk_at dksX10_ready_0 1 rfl rfl)
theorem dX10_ready_2 : decode cX10_ready 2 = .ok (.putfield 121, 3) := dk_181 0 121 (dk_at dksX10_ready_0 2 rfl rfl)
theorem dX10_ready_5 : decode cX10_ready 5 = .ok (.aload_n 0, 1) := dk_42 (dk_at dksX10_ready_0 5 rfl rfl)
theorem dX10_ready_6 : decode cX10_ready 6 = .ok (.getfield 287, 3) := dk_180 1 31 (dk_at dksX10_ready_0 6 rfl rfl)
theorem dX10_ready_9 : decode cX10_ready 9 = .ok (.ifCond .eq 4, 3) := dk_153 0 4 (dk_at dksX10_ready_0 9 rfl rfl)
theorem dX10_ready_12 : decode cX10_ready 12 = .ok (.return_, 1) := dk_177 (dk_at dksX10_ready_0 12 rfl rfl)
theorem dX10_ready_13 : decode cX10_ready 13 = .ok (.aload_n 0, 1) := dk_42 (dk_at dksX10_ready_0 13 rfl rfl)
theorem dX10_ready_14 : decode cX10_ready 14 = .ok (.iconst 1, 1) := dk_4 (dk_at dksX10_ready_0 14 rfl rfl)
theorem dX10_ready_15 : decode cX10_ready 15 = .ok (.putfield 287, 3) := dk_181 1 31 (dk_at dksX10_ready_0 15 rfl rfl)
theorem dX10_ready_18 : decode cX10_ready 18 = .ok (.aload_n 0, 1) := dk_42 (dk_at dksX10_ready_0 18 rfl rfl)
theorem dX10_ready_19 : decode cX10_ready 19 = .ok (.invokevirtual 253, 3) := dk_182 0 253 (dk_at dksX10_ready_0 19 rfl rfl)
theorem dX10_ready_22 : decode cX10_ready 22 = .ok (.aload_n 0, 1) := dk_42 (dk_at dksX10_ready_0 22 rfl rfl)
theorem dX10_ready_23 : decode cX10_ready 23 = .ok (.invokevirtual 259, 3) := dk_182 1 3 (dk_at dksX10_ready_1 0 rfl rfl)
theorem dX10_ready_26 : decode cX10_ready 26 = .ok (.return_, 1) := dk_177 (dk_at dksX10_ready_1 3 rfl rfl)
abbrev cX10_beginTold : ByteArray := prog_22_method_29_code
def yX10_beginTold : MethodName := ⟨RX10, "beginTold", "()V"⟩
def dkwX10_beginTold_3 : List UInt8 := [3, 79, 42, 180, 0, 44, 16, 19, 3, 79, 42, 180, 0, 48, 16, 16, 16, 85, 79, 177]
abbrev dktX10_beginTold_3 : List UInt8 := dkwX10_beginTold_3 ++ []
def dkwX10_beginTold_2 : List UInt8 := [3, 79, 42, 180, 0, 44, 16, 16, 4, 79, 42, 180, 0, 44, 16, 17, 4, 79, 42, 180, 0, 44, 16, 18]
abbrev dktX10_beginTold_2 : List UInt8 := dkwX10_beginTold_2 ++ dktX10_beginTold_3
def dkwX10_beginTold_1 : List UInt8 := [79, 42, 180, 0, 44, 16, 13, 4, 79, 42, 180, 0, 44, 16, 14, 16, 8, 79, 42, 180, 0, 44, 16, 15]
abbrev dktX10_beginTold_1 : List UInt8 := dkwX10_beginTold_1 ++ dktX10_beginTold_2
def dkwX10_beginTold_0 : List UInt8 := [42, 180, 0, 44, 16, 10, 7, 79, 42, 180, 0, 44, 16, 11, 16, 12, 79, 42, 180, 0, 44, 16, 12, 7]
abbrev dktX10_beginTold_0 : List UInt8 := dkwX10_beginTold_0 ++ dktX10_beginTold_1
theorem dksX10_beginTold_0 : cX10_beginTold.data.toList.drop 0 = dktX10_beginTold_0 := by decide +kernel
theorem dksX10_beginTold_1 : cX10_beginTold.data.toList.drop 24 = dktX10_beginTold_1 := dk_seg dksX10_beginTold_0 24 rfl rfl
theorem dksX10_beginTold_2 : cX10_beginTold.data.toList.drop 48 = dktX10_beginTold_2 := dk_seg dksX10_beginTold_1 24 rfl rfl
theorem dksX10_beginTold_3 : cX10_beginTold.data.toList.drop 72 = dktX10_beginTold_3 := dk_seg dksX10_beginTold_2 24 rfl rfl
theorem dX10_beginTold_0 : decode cX10_beginTold 0 = .ok (.aload_n 0, 1) := dk_42 (dk_at dksX10_beginTold_0 0 rfl rfl)
theorem dX10_beginTold_1 : decode cX10_beginTold 1 = .ok (.getfield 44, 3) := dk_180 0 44 (dk_at dksX10_beginTold_0 1 rfl rfl)
theorem dX10_beginTold_4 : decode cX10_beginTold 4 = .ok (.bipush 10, 2) := dk_16 10 (dk_at dksX10_beginTold_0 4 rfl rfl)
theorem dX10_beginTold_6 : decode cX10_beginTold 6 = .ok (.iconst 4, 1) := dk_7 (dk_at dksX10_beginTold_0 6 rfl rfl)
theorem dX10_beginTold_7 : decode cX10_beginTold 7 = .ok (.iastore, 1) := dk_79 (dk_at dksX10_beginTold_0 7 rfl rfl)
theorem dX10_beginTold_8 : decode cX10_beginTold 8 = .ok (.aload_n 0, 1) := dk_42 (dk_at dksX10_beginTold_0 8 rfl rfl)
theorem dX10_beginTold_9 : decode cX10_beginTold 9 = .ok (.getfield 44, 3) := dk_180 0 44 (dk_at dksX10_beginTold_0 9 rfl rfl)
theorem dX10_beginTold_12 : decode cX10_beginTold 12 = .ok (.bipush 11, 2) := dk_16 11 (dk_at dksX10_beginTold_0 12 rfl rfl)
theorem dX10_beginTold_14 : decode cX10_beginTold 14 = .ok (.bipush 12, 2) := dk_16 12 (dk_at dksX10_beginTold_0 14 rfl rfl)
theorem dX10_beginTold_16 : decode cX10_beginTold 16 = .ok (.iastore, 1) := dk_79 (dk_at dksX10_beginTold_0 16 rfl rfl)
theorem dX10_beginTold_17 : decode cX10_beginTold 17 = .ok (.aload_n 0, 1) := dk_42 (dk_at dksX10_beginTold_0 17 rfl rfl)
theorem dX10_beginTold_18 : decode cX10_beginTold 18 = .ok (.getfield 44, 3) := dk_180 0 44 (dk_at dksX10_beginTold_0 18 rfl rfl)
theorem dX10_beginTold_21 : decode cX10_beginTold 21 = .ok (.bipush 12, 2) := dk_16 12 (dk_at dksX10_beginTold_0 21 rfl rfl)
theorem dX10_beginTold_23 : decode cX10_beginTold 23 = .ok (.iconst 4, 1) := dk_7 (dk_at dksX10_beginTold_0 23 rfl rfl)
theorem dX10_beginTold_24 : decode cX10_beginTold 24 = .ok (.iastore, 1) := dk_79 (dk_at dksX10_beginTold_1 0 rfl rfl)
theorem dX10_beginTold_25 : decode cX10_beginTold 25 = .ok (.aload_n 0, 1) := dk_42 (dk_at dksX10_beginTold_1 1 rfl rfl)
theorem dX10_beginTold_26 : decode cX10_beginTold 26 = .ok (.getfield 44, 3) := dk_180 0 44 (dk_at dksX10_beginTold_1 2 rfl rfl)
theorem dX10_beginTold_29 : decode cX10_beginTold 29 = .ok (.bipush 13, 2) := dk_16 13 (dk_at dksX10_beginTold_1 5 rfl rfl)
theorem dX10_beginTold_31 : decode cX10_beginTold 31 = .ok (.iconst 1, 1) := dk_4 (dk_at dksX10_beginTold_1 7 rfl rfl)
theorem dX10_beginTold_32 : decode cX10_beginTold 32 = .ok (.iastore, 1) := dk_79 (dk_at dksX10_beginTold_1 8 rfl rfl)
theorem dX10_beginTold_33 : decode cX10_beginTold 33 = .ok (.aload_n 0, 1) := dk_42 (dk_at dksX10_beginTold_1 9 rfl rfl)
theorem dX10_beginTold_34 : decode cX10_beginTold 34 = .ok (.getfield 44, 3) := dk_180 0 44 (dk_at dksX10_beginTold_1 10 rfl rfl)
theorem dX10_beginTold_37 : decode cX10_beginTold 37 = .ok (.bipush 14, 2) := dk_16 14 (dk_at dksX10_beginTold_1 13 rfl rfl)
theorem dX10_beginTold_39 : decode cX10_beginTold 39 = .ok (.bipush 8, 2) := dk_16 8 (dk_at dksX10_beginTold_1 15 rfl rfl)
theorem dX10_beginTold_41 : decode cX10_beginTold 41 = .ok (.iastore, 1) := dk_79 (dk_at dksX10_beginTold_1 17 rfl rfl)
theorem dX10_beginTold_42 : decode cX10_beginTold 42 = .ok (.aload_n 0, 1) := dk_42 (dk_at dksX10_beginTold_1 18 rfl rfl)
theorem dX10_beginTold_43 : decode cX10_beginTold 43 = .ok (.getfield 44, 3) := dk_180 0 44 (dk_at dksX10_beginTold_1 19 rfl rfl)
theorem dX10_beginTold_46 : decode cX10_beginTold 46 = .ok (.bipush 15, 2) := dk_16 15 (dk_at dksX10_beginTold_1 22 rfl rfl)
theorem dX10_beginTold_48 : decode cX10_beginTold 48 = .ok (.iconst 0, 1) := dk_3 (dk_at dksX10_beginTold_2 0 rfl rfl)
theorem dX10_beginTold_49 : decode cX10_beginTold 49 = .ok (.iastore, 1) := dk_79 (dk_at dksX10_beginTold_2 1 rfl rfl)
theorem dX10_beginTold_50 : decode cX10_beginTold 50 = .ok (.aload_n 0, 1) := dk_42 (dk_at dksX10_beginTold_2 2 rfl rfl)
theorem dX10_beginTold_51 : decode cX10_beginTold 51 = .ok (.getfield 44, 3) := dk_180 0 44 (dk_at dksX10_beginTold_2 3 rfl rfl)
theorem dX10_beginTold_54 : decode cX10_beginTold 54 = .ok (.bipush 16, 2) := dk_16 16 (dk_at dksX10_beginTold_2 6 rfl rfl)
theorem dX10_beginTold_56 : decode cX10_beginTold 56 = .ok (.iconst 1, 1) := dk_4 (dk_at dksX10_beginTold_2 8 rfl rfl)
theorem dX10_beginTold_57 : decode cX10_beginTold 57 = .ok (.iastore, 1) := dk_79 (dk_at dksX10_beginTold_2 9 rfl rfl)
theorem dX10_beginTold_58 : decode cX10_beginTold 58 = .ok (.aload_n 0, 1) := dk_42 (dk_at dksX10_beginTold_2 10 rfl rfl)
theorem dX10_beginTold_59 : decode cX10_beginTold 59 = .ok (.getfield 44, 3) := dk_180 0 44 (dk_at dksX10_beginTold_2 11 rfl rfl)
theorem dX10_beginTold_62 : decode cX10_beginTold 62 = .ok (.bipush 17, 2) := dk_16 17 (dk_at dksX10_beginTold_2 14 rfl rfl)
theorem dX10_beginTold_64 : decode cX10_beginTold 64 = .ok (.iconst 1, 1) := dk_4 (dk_at dksX10_beginTold_2 16 rfl rfl)
theorem dX10_beginTold_65 : decode cX10_beginTold 65 = .ok (.iastore, 1) := dk_79 (dk_at dksX10_beginTold_2 17 rfl rfl)
theorem dX10_beginTold_66 : decode cX10_beginTold 66 = .ok (.aload_n 0, 1) := dk_42 (dk_at dksX10_beginTold_2 18 rfl rfl)
theorem dX10_beginTold_67 : decode cX10_beginTold 67 = .ok (.getfield 44, 3) := dk_180 0 44 (dk_at dksX10_beginTold_2 19 rfl rfl)
theorem dX10_beginTold_70 : decode cX10_beginTold 70 = .ok (.bipush 18, 2) := dk_16 18 (dk_at dksX10_beginTold_2 22 rfl rfl)
theorem dX10_beginTold_72 : decode cX10_beginTold 72 = .ok (.iconst 0, 1) := dk_3 (dk_at dksX10_beginTold_3 0 rfl rfl)
theorem dX10_beginTold_73 : decode cX10_beginTold 73 = .ok (.iastore, 1) := dk_79 (dk_at dksX10_beginTold_3 1 rfl rfl)
theorem dX10_beginTold_74 : decode cX10_beginTold 74 = .ok (.aload_n 0, 1) := dk_42 (dk_at dksX10_beginTold_3 2 rfl rfl)
theorem dX10_beginTold_75 : decode cX10_beginTold 75 = .ok (.getfield 44, 3) := dk_180 0 44 (dk_at dksX10_beginTold_3 3 rfl rfl)
theorem dX10_beginTold_78 : decode cX10_beginTold 78 = .ok (.bipush 19, 2) := dk_16 19 (dk_at dksX10_beginTold_3 6 rfl rfl)
theorem dX10_beginTold_80 : decode cX10_beginTold 80 = .ok (.iconst 0, 1) := dk_3 (dk_at dksX10_beginTold_3 8 rfl rfl)
theorem dX10_beginTold_81 : decode cX10_beginTold 81 = .ok (.iastore, 1) := dk_79 (dk_at dksX10_beginTold_3 9 rfl rfl)
theorem dX10_beginTold_82 : decode cX10_beginTold 82 = .ok (.aload_n 0, 1) := dk_42 (dk_at dksX10_beginTold_3 10 rfl rfl)
theorem dX10_beginTold_83 : decode cX10_beginTold 83 = .ok (.getfield 48, 3) := dk_180 0 48 (dk_at dksX10_beginTold_3 11 rfl rfl)
theorem dX10_beginTold_86 : decode cX10_beginTold 86 = .ok (.bipush 16, 2) := dk_16 16 (dk_at dksX10_beginTold_3 14 rfl rfl)
theorem dX10_beginTold_88 : decode cX10_beginTold 88 = .ok (.bipush 85, 2) := dk_16 85 (dk_at dksX10_beginTold_3 16 rfl rfl)
theorem dX10_beginTold_90 : decode cX10_beginTold 90 = .ok (.iastore, 1) := dk_79 (dk_at dksX10_beginTold_3 18 rfl rfl)
theorem dX10_beginTold_91 : decode cX10_beginTold 91 = .ok (.return_, 1) := dk_177 (dk_at dksX10_beginTold_3 19 rfl rfl)
abbrev cX10_takeOver : ByteArray := prog_22_method_32_code
def yX10_takeOver : MethodName := ⟨RX10, "takeOver", "()V"⟩
def dkwX10_takeOver_5 : List UInt8 := [181, 1, 28, 177]
abbrev dktX10_takeOver_5 : List UInt8 := dkwX10_takeOver_5 ++ []
def dkwX10_takeOver_4 : List UInt8 := [180, 0, 59, 16, 27, 42, 180, 0, 44, 8, 46, 79, 42, 3, 181, 1, 22, 42, 3, 181, 1, 25, 42, 3]
abbrev dktX10_takeOver_4 : List UInt8 := dkwX10_takeOver_4 ++ dktX10_takeOver_5
def dkwX10_takeOver_3 : List UInt8 := [132, 1, 1, 167, 255, 239, 42, 182, 1, 19, 42, 180, 0, 59, 16, 29, 42, 180, 0, 44, 4, 46, 79, 42]
abbrev dktX10_takeOver_3 : List UInt8 := dkwX10_takeOver_3 ++ dktX10_takeOver_4
def dkwX10_takeOver_2 : List UInt8 := [181, 1, 13, 42, 182, 1, 16, 3, 60, 27, 17, 2, 153, 162, 0, 16, 42, 180, 0, 59, 27, 3, 79]
abbrev dktX10_takeOver_2 : List UInt8 := dkwX10_takeOver_2 ++ dktX10_takeOver_3
def dkwX10_takeOver_1 : List UInt8 := [180, 0, 53, 184, 1, 6, 42, 42, 180, 0, 44, 5, 46, 181, 1, 10, 42, 42, 180, 0, 44, 6, 46]
abbrev dktX10_takeOver_1 : List UInt8 := dkwX10_takeOver_1 ++ dktX10_takeOver_2
def dkwX10_takeOver_0 : List UInt8 := [42, 180, 0, 44, 184, 1, 6, 42, 180, 0, 48, 184, 1, 6, 42, 180, 0, 50, 184, 1, 6, 42]
abbrev dktX10_takeOver_0 : List UInt8 := dkwX10_takeOver_0 ++ dktX10_takeOver_1
theorem dksX10_takeOver_0 : cX10_takeOver.data.toList.drop 0 = dktX10_takeOver_0 := by decide +kernel
theorem dksX10_takeOver_1 : cX10_takeOver.data.toList.drop 22 = dktX10_takeOver_1 := dk_seg dksX10_takeOver_0 22 rfl rfl
theorem dksX10_takeOver_2 : cX10_takeOver.data.toList.drop 45 = dktX10_takeOver_2 := dk_seg dksX10_takeOver_1 23 rfl rfl
theorem dksX10_takeOver_3 : cX10_takeOver.data.toList.drop 68 = dktX10_takeOver_3 := dk_seg dksX10_takeOver_2 23 rfl rfl
theorem dksX10_takeOver_4 : cX10_takeOver.data.toList.drop 92 = dktX10_takeOver_4 := dk_seg dksX10_takeOver_3 24 rfl rfl
theorem dksX10_takeOver_5 : cX10_takeOver.data.toList.drop 116 = dktX10_takeOver_5 := dk_seg dksX10_takeOver_4 24 rfl rfl
theorem dX10_takeOver_0 : decode cX10_takeOver 0 = .ok (.aload_n 0, 1) := dk_42 (dk_at dksX10_takeOver_0 0 rfl rfl)
theorem dX10_takeOver_1 : decode cX10_takeOver 1 = .ok (.getfield 44, 3) := dk_180 0 44 (dk_at dksX10_takeOver_0 1 rfl rfl)
theorem dX10_takeOver_4 : decode cX10_takeOver 4 = .ok (.invokestatic 262, 3) := dk_184 1 6 (dk_at dksX10_takeOver_0 4 rfl rfl)
theorem dX10_takeOver_7 : decode cX10_takeOver 7 = .ok (.aload_n 0, 1) := dk_42 (dk_at dksX10_takeOver_0 7 rfl rfl)
theorem dX10_takeOver_8 : decode cX10_takeOver 8 = .ok (.getfield 48, 3) := dk_180 0 48 (dk_at dksX10_takeOver_0 8 rfl rfl)
theorem dX10_takeOver_11 : decode cX10_takeOver 11 = .ok (.invokestatic 262, 3) := dk_184 1 6 (dk_at dksX10_takeOver_0 11 rfl rfl)
theorem dX10_takeOver_14 : decode cX10_takeOver 14 = .ok (.aload_n 0, 1) := dk_42 (dk_at dksX10_takeOver_0 14 rfl rfl)
theorem dX10_takeOver_15 : decode cX10_takeOver 15 = .ok (.getfield 50, 3) := dk_180 0 50 (dk_at dksX10_takeOver_0 15 rfl rfl)
theorem dX10_takeOver_18 : decode cX10_takeOver 18 = .ok (.invokestatic 262, 3) := dk_184 1 6 (dk_at dksX10_takeOver_0 18 rfl rfl)
theorem dX10_takeOver_21 : decode cX10_takeOver 21 = .ok (.aload_n 0, 1) := dk_42 (dk_at dksX10_takeOver_0 21 rfl rfl)
theorem dX10_takeOver_22 : decode cX10_takeOver 22 = .ok (.getfield 53, 3) := dk_180 0 53 (dk_at dksX10_takeOver_1 0 rfl rfl)
theorem dX10_takeOver_25 : decode cX10_takeOver 25 = .ok (.invokestatic 262, 3) := dk_184 1 6 (dk_at dksX10_takeOver_1 3 rfl rfl)
theorem dX10_takeOver_28 : decode cX10_takeOver 28 = .ok (.aload_n 0, 1) := dk_42 (dk_at dksX10_takeOver_1 6 rfl rfl)
theorem dX10_takeOver_29 : decode cX10_takeOver 29 = .ok (.aload_n 0, 1) := dk_42 (dk_at dksX10_takeOver_1 7 rfl rfl)
theorem dX10_takeOver_30 : decode cX10_takeOver 30 = .ok (.getfield 44, 3) := dk_180 0 44 (dk_at dksX10_takeOver_1 8 rfl rfl)
theorem dX10_takeOver_33 : decode cX10_takeOver 33 = .ok (.iconst 2, 1) := dk_5 (dk_at dksX10_takeOver_1 11 rfl rfl)
theorem dX10_takeOver_34 : decode cX10_takeOver 34 = .ok (.iaload, 1) := dk_46 (dk_at dksX10_takeOver_1 12 rfl rfl)
theorem dX10_takeOver_35 : decode cX10_takeOver 35 = .ok (.putfield 266, 3) := dk_181 1 10 (dk_at dksX10_takeOver_1 13 rfl rfl)
theorem dX10_takeOver_38 : decode cX10_takeOver 38 = .ok (.aload_n 0, 1) := dk_42 (dk_at dksX10_takeOver_1 16 rfl rfl)
theorem dX10_takeOver_39 : decode cX10_takeOver 39 = .ok (.aload_n 0, 1) := dk_42 (dk_at dksX10_takeOver_1 17 rfl rfl)
theorem dX10_takeOver_40 : decode cX10_takeOver 40 = .ok (.getfield 44, 3) := dk_180 0 44 (dk_at dksX10_takeOver_1 18 rfl rfl)
theorem dX10_takeOver_43 : decode cX10_takeOver 43 = .ok (.iconst 3, 1) := dk_6 (dk_at dksX10_takeOver_1 21 rfl rfl)
theorem dX10_takeOver_44 : decode cX10_takeOver 44 = .ok (.iaload, 1) := dk_46 (dk_at dksX10_takeOver_1 22 rfl rfl)
theorem dX10_takeOver_45 : decode cX10_takeOver 45 = .ok (.putfield 269, 3) := dk_181 1 13 (dk_at dksX10_takeOver_2 0 rfl rfl)
theorem dX10_takeOver_48 : decode cX10_takeOver 48 = .ok (.aload_n 0, 1) := dk_42 (dk_at dksX10_takeOver_2 3 rfl rfl)
theorem dX10_takeOver_49 : decode cX10_takeOver 49 = .ok (.invokevirtual 272, 3) := dk_182 1 16 (dk_at dksX10_takeOver_2 4 rfl rfl)
theorem dX10_takeOver_52 : decode cX10_takeOver 52 = .ok (.iconst 0, 1) := dk_3 (dk_at dksX10_takeOver_2 7 rfl rfl)
theorem dX10_takeOver_53 : decode cX10_takeOver 53 = .ok (.istore_n 1, 1) := dk_60 (dk_at dksX10_takeOver_2 8 rfl rfl)
theorem dX10_takeOver_54 : decode cX10_takeOver 54 = .ok (.iload_n 1, 1) := dk_27 (dk_at dksX10_takeOver_2 9 rfl rfl)
theorem dX10_takeOver_55 : decode cX10_takeOver 55 = .ok (.sipush 665, 3) := dk_17 2 153 (dk_at dksX10_takeOver_2 10 rfl rfl)
theorem dX10_takeOver_58 : decode cX10_takeOver 58 = .ok (.if_icmp .ge 16, 3) := dk_162 0 16 (dk_at dksX10_takeOver_2 13 rfl rfl)
theorem dX10_takeOver_61 : decode cX10_takeOver 61 = .ok (.aload_n 0, 1) := dk_42 (dk_at dksX10_takeOver_2 16 rfl rfl)
theorem dX10_takeOver_62 : decode cX10_takeOver 62 = .ok (.getfield 59, 3) := dk_180 0 59 (dk_at dksX10_takeOver_2 17 rfl rfl)
theorem dX10_takeOver_65 : decode cX10_takeOver 65 = .ok (.iload_n 1, 1) := dk_27 (dk_at dksX10_takeOver_2 20 rfl rfl)
theorem dX10_takeOver_66 : decode cX10_takeOver 66 = .ok (.iconst 0, 1) := dk_3 (dk_at dksX10_takeOver_2 21 rfl rfl)
theorem dX10_takeOver_67 : decode cX10_takeOver 67 = .ok (.iastore, 1) := dk_79 (dk_at dksX10_takeOver_2 22 rfl rfl)
theorem dX10_takeOver_68 : decode cX10_takeOver 68 = .ok (.iinc 1 1, 3) := dk_132 1 1 (dk_at dksX10_takeOver_3 0 rfl rfl)
theorem dX10_takeOver_71 : decode cX10_takeOver 71 = .ok (.goto (-17), 3) := dk_167 255 239 (dk_at dksX10_takeOver_3 3 rfl rfl)
theorem dX10_takeOver_74 : decode cX10_takeOver 74 = .ok (.aload_n 0, 1) := dk_42 (dk_at dksX10_takeOver_3 6 rfl rfl)
theorem dX10_takeOver_75 : decode cX10_takeOver 75 = .ok (.invokevirtual 275, 3) := dk_182 1 19 (dk_at dksX10_takeOver_3 7 rfl rfl)
theorem dX10_takeOver_78 : decode cX10_takeOver 78 = .ok (.aload_n 0, 1) := dk_42 (dk_at dksX10_takeOver_3 10 rfl rfl)
theorem dX10_takeOver_79 : decode cX10_takeOver 79 = .ok (.getfield 59, 3) := dk_180 0 59 (dk_at dksX10_takeOver_3 11 rfl rfl)
theorem dX10_takeOver_82 : decode cX10_takeOver 82 = .ok (.bipush 29, 2) := dk_16 29 (dk_at dksX10_takeOver_3 14 rfl rfl)
theorem dX10_takeOver_84 : decode cX10_takeOver 84 = .ok (.aload_n 0, 1) := dk_42 (dk_at dksX10_takeOver_3 16 rfl rfl)
theorem dX10_takeOver_85 : decode cX10_takeOver 85 = .ok (.getfield 44, 3) := dk_180 0 44 (dk_at dksX10_takeOver_3 17 rfl rfl)
theorem dX10_takeOver_88 : decode cX10_takeOver 88 = .ok (.iconst 1, 1) := dk_4 (dk_at dksX10_takeOver_3 20 rfl rfl)
theorem dX10_takeOver_89 : decode cX10_takeOver 89 = .ok (.iaload, 1) := dk_46 (dk_at dksX10_takeOver_3 21 rfl rfl)
theorem dX10_takeOver_90 : decode cX10_takeOver 90 = .ok (.iastore, 1) := dk_79 (dk_at dksX10_takeOver_3 22 rfl rfl)
theorem dX10_takeOver_91 : decode cX10_takeOver 91 = .ok (.aload_n 0, 1) := dk_42 (dk_at dksX10_takeOver_3 23 rfl rfl)
theorem dX10_takeOver_92 : decode cX10_takeOver 92 = .ok (.getfield 59, 3) := dk_180 0 59 (dk_at dksX10_takeOver_4 0 rfl rfl)
theorem dX10_takeOver_95 : decode cX10_takeOver 95 = .ok (.bipush 27, 2) := dk_16 27 (dk_at dksX10_takeOver_4 3 rfl rfl)
theorem dX10_takeOver_97 : decode cX10_takeOver 97 = .ok (.aload_n 0, 1) := dk_42 (dk_at dksX10_takeOver_4 5 rfl rfl)
theorem dX10_takeOver_98 : decode cX10_takeOver 98 = .ok (.getfield 44, 3) := dk_180 0 44 (dk_at dksX10_takeOver_4 6 rfl rfl)
theorem dX10_takeOver_101 : decode cX10_takeOver 101 = .ok (.iconst 5, 1) := dk_8 (dk_at dksX10_takeOver_4 9 rfl rfl)
theorem dX10_takeOver_102 : decode cX10_takeOver 102 = .ok (.iaload, 1) := dk_46 (dk_at dksX10_takeOver_4 10 rfl rfl)
theorem dX10_takeOver_103 : decode cX10_takeOver 103 = .ok (.iastore, 1) := dk_79 (dk_at dksX10_takeOver_4 11 rfl rfl)
theorem dX10_takeOver_104 : decode cX10_takeOver 104 = .ok (.aload_n 0, 1) := dk_42 (dk_at dksX10_takeOver_4 12 rfl rfl)
theorem dX10_takeOver_105 : decode cX10_takeOver 105 = .ok (.iconst 0, 1) := dk_3 (dk_at dksX10_takeOver_4 13 rfl rfl)
theorem dX10_takeOver_106 : decode cX10_takeOver 106 = .ok (.putfield 278, 3) := dk_181 1 22 (dk_at dksX10_takeOver_4 14 rfl rfl)
theorem dX10_takeOver_109 : decode cX10_takeOver 109 = .ok (.aload_n 0, 1) := dk_42 (dk_at dksX10_takeOver_4 17 rfl rfl)
theorem dX10_takeOver_110 : decode cX10_takeOver 110 = .ok (.iconst 0, 1) := dk_3 (dk_at dksX10_takeOver_4 18 rfl rfl)
theorem dX10_takeOver_111 : decode cX10_takeOver 111 = .ok (.putfield 281, 3) := dk_181 1 25 (dk_at dksX10_takeOver_4 19 rfl rfl)
theorem dX10_takeOver_114 : decode cX10_takeOver 114 = .ok (.aload_n 0, 1) := dk_42 (dk_at dksX10_takeOver_4 22 rfl rfl)
theorem dX10_takeOver_115 : decode cX10_takeOver 115 = .ok (.iconst 0, 1) := dk_3 (dk_at dksX10_takeOver_4 23 rfl rfl)
theorem dX10_takeOver_116 : decode cX10_takeOver 116 = .ok (.putfield 284, 3) := dk_181 1 28 (dk_at dksX10_takeOver_5 0 rfl rfl)
theorem dX10_takeOver_119 : decode cX10_takeOver 119 = .ok (.return_, 1) := dk_177 (dk_at dksX10_takeOver_5 3 rfl rfl)
abbrev cX10_takeHalf : ByteArray := prog_22_method_31_code
def yX10_takeHalf : MethodName := ⟨RX10, "takeHalf", "([I)V"⟩
def dkwX10_takeHalf_1 : List UInt8 := [167, 255, 234, 177]
abbrev dktX10_takeHalf_1 : List UInt8 := dkwX10_takeHalf_1 ++ []
def dkwX10_takeHalf_0 : List UInt8 := [3, 60, 27, 42, 190, 5, 108, 162, 0, 20, 42, 27, 42, 42, 190, 5, 108, 27, 96, 46, 79, 132, 1, 1]
abbrev dktX10_takeHalf_0 : List UInt8 := dkwX10_takeHalf_0 ++ dktX10_takeHalf_1
theorem dksX10_takeHalf_0 : cX10_takeHalf.data.toList.drop 0 = dktX10_takeHalf_0 := by decide +kernel
theorem dksX10_takeHalf_1 : cX10_takeHalf.data.toList.drop 24 = dktX10_takeHalf_1 := dk_seg dksX10_takeHalf_0 24 rfl rfl
theorem dX10_takeHalf_0 : decode cX10_takeHalf 0 = .ok (.iconst 0, 1) := dk_3 (dk_at dksX10_takeHalf_0 0 rfl rfl)
theorem dX10_takeHalf_1 : decode cX10_takeHalf 1 = .ok (.istore_n 1, 1) := dk_60 (dk_at dksX10_takeHalf_0 1 rfl rfl)
theorem dX10_takeHalf_2 : decode cX10_takeHalf 2 = .ok (.iload_n 1, 1) := dk_27 (dk_at dksX10_takeHalf_0 2 rfl rfl)
theorem dX10_takeHalf_3 : decode cX10_takeHalf 3 = .ok (.aload_n 0, 1) := dk_42 (dk_at dksX10_takeHalf_0 3 rfl rfl)
theorem dX10_takeHalf_4 : decode cX10_takeHalf 4 = .ok (.arraylength, 1) := dk_190 (dk_at dksX10_takeHalf_0 4 rfl rfl)
theorem dX10_takeHalf_5 : decode cX10_takeHalf 5 = .ok (.iconst 2, 1) := dk_5 (dk_at dksX10_takeHalf_0 5 rfl rfl)
theorem dX10_takeHalf_6 : decode cX10_takeHalf 6 = .ok (.idiv, 1) := dk_108 (dk_at dksX10_takeHalf_0 6 rfl rfl)
theorem dX10_takeHalf_7 : decode cX10_takeHalf 7 = .ok (.if_icmp .ge 20, 3) := dk_162 0 20 (dk_at dksX10_takeHalf_0 7 rfl rfl)
theorem dX10_takeHalf_10 : decode cX10_takeHalf 10 = .ok (.aload_n 0, 1) := dk_42 (dk_at dksX10_takeHalf_0 10 rfl rfl)
theorem dX10_takeHalf_11 : decode cX10_takeHalf 11 = .ok (.iload_n 1, 1) := dk_27 (dk_at dksX10_takeHalf_0 11 rfl rfl)
theorem dX10_takeHalf_12 : decode cX10_takeHalf 12 = .ok (.aload_n 0, 1) := dk_42 (dk_at dksX10_takeHalf_0 12 rfl rfl)
theorem dX10_takeHalf_13 : decode cX10_takeHalf 13 = .ok (.aload_n 0, 1) := dk_42 (dk_at dksX10_takeHalf_0 13 rfl rfl)
theorem dX10_takeHalf_14 : decode cX10_takeHalf 14 = .ok (.arraylength, 1) := dk_190 (dk_at dksX10_takeHalf_0 14 rfl rfl)
theorem dX10_takeHalf_15 : decode cX10_takeHalf 15 = .ok (.iconst 2, 1) := dk_5 (dk_at dksX10_takeHalf_0 15 rfl rfl)
theorem dX10_takeHalf_16 : decode cX10_takeHalf 16 = .ok (.idiv, 1) := dk_108 (dk_at dksX10_takeHalf_0 16 rfl rfl)
theorem dX10_takeHalf_17 : decode cX10_takeHalf 17 = .ok (.iload_n 1, 1) := dk_27 (dk_at dksX10_takeHalf_0 17 rfl rfl)
theorem dX10_takeHalf_18 : decode cX10_takeHalf 18 = .ok (.iadd, 1) := dk_96 (dk_at dksX10_takeHalf_0 18 rfl rfl)
theorem dX10_takeHalf_19 : decode cX10_takeHalf 19 = .ok (.iaload, 1) := dk_46 (dk_at dksX10_takeHalf_0 19 rfl rfl)
theorem dX10_takeHalf_20 : decode cX10_takeHalf 20 = .ok (.iastore, 1) := dk_79 (dk_at dksX10_takeHalf_0 20 rfl rfl)
theorem dX10_takeHalf_21 : decode cX10_takeHalf 21 = .ok (.iinc 1 1, 3) := dk_132 1 1 (dk_at dksX10_takeHalf_0 21 rfl rfl)
theorem dX10_takeHalf_24 : decode cX10_takeHalf 24 = .ok (.goto (-22), 3) := dk_167 255 234 (dk_at dksX10_takeHalf_1 0 rfl rfl)
theorem dX10_takeHalf_27 : decode cX10_takeHalf 27 = .ok (.return_, 1) := dk_177 (dk_at dksX10_takeHalf_1 3 rfl rfl)
abbrev cX10_forgetGiven : ByteArray := prog_22_method_36_code
def yX10_forgetGiven : MethodName := ⟨RX10, "forgetGiven", "()V"⟩
def dkwX10_forgetGiven_0 : List UInt8 := [3, 60, 27, 17, 8, 0, 162, 0, 16, 42, 180, 0, 81, 27, 3, 84, 132, 1, 1, 167, 255, 239, 177]
abbrev dktX10_forgetGiven_0 : List UInt8 := dkwX10_forgetGiven_0 ++ []
theorem dksX10_forgetGiven_0 : cX10_forgetGiven.data.toList.drop 0 = dktX10_forgetGiven_0 := by decide +kernel
theorem dX10_forgetGiven_0 : decode cX10_forgetGiven 0 = .ok (.iconst 0, 1) := dk_3 (dk_at dksX10_forgetGiven_0 0 rfl rfl)
theorem dX10_forgetGiven_1 : decode cX10_forgetGiven 1 = .ok (.istore_n 1, 1) := dk_60 (dk_at dksX10_forgetGiven_0 1 rfl rfl)
theorem dX10_forgetGiven_2 : decode cX10_forgetGiven 2 = .ok (.iload_n 1, 1) := dk_27 (dk_at dksX10_forgetGiven_0 2 rfl rfl)
theorem dX10_forgetGiven_3 : decode cX10_forgetGiven 3 = .ok (.sipush 2048, 3) := dk_17 8 0 (dk_at dksX10_forgetGiven_0 3 rfl rfl)
theorem dX10_forgetGiven_6 : decode cX10_forgetGiven 6 = .ok (.if_icmp .ge 16, 3) := dk_162 0 16 (dk_at dksX10_forgetGiven_0 6 rfl rfl)
theorem dX10_forgetGiven_9 : decode cX10_forgetGiven 9 = .ok (.aload_n 0, 1) := dk_42 (dk_at dksX10_forgetGiven_0 9 rfl rfl)
theorem dX10_forgetGiven_10 : decode cX10_forgetGiven 10 = .ok (.getfield 81, 3) := dk_180 0 81 (dk_at dksX10_forgetGiven_0 10 rfl rfl)
theorem dX10_forgetGiven_13 : decode cX10_forgetGiven 13 = .ok (.iload_n 1, 1) := dk_27 (dk_at dksX10_forgetGiven_0 13 rfl rfl)
theorem dX10_forgetGiven_14 : decode cX10_forgetGiven 14 = .ok (.iconst 0, 1) := dk_3 (dk_at dksX10_forgetGiven_0 14 rfl rfl)
theorem dX10_forgetGiven_15 : decode cX10_forgetGiven 15 = .ok (.bastore, 1) := dk_84 (dk_at dksX10_forgetGiven_0 15 rfl rfl)
theorem dX10_forgetGiven_16 : decode cX10_forgetGiven 16 = .ok (.iinc 1 1, 3) := dk_132 1 1 (dk_at dksX10_forgetGiven_0 16 rfl rfl)
theorem dX10_forgetGiven_19 : decode cX10_forgetGiven 19 = .ok (.goto (-17), 3) := dk_167 255 239 (dk_at dksX10_forgetGiven_0 19 rfl rfl)
theorem dX10_forgetGiven_22 : decode cX10_forgetGiven 22 = .ok (.return_, 1) := dk_177 (dk_at dksX10_forgetGiven_0 22 rfl rfl)
abbrev cX10_emptySlots : ByteArray := prog_22_method_43_code
def yX10_emptySlots : MethodName := ⟨RX10, "emptySlots", "()V"⟩
def dkwX10_emptySlots_1 : List UInt8 := [17, 0, 217, 27, 96, 2, 79, 132, 1, 1, 167, 255, 225, 177]
abbrev dktX10_emptySlots_1 : List UInt8 := dkwX10_emptySlots_1 ++ []
def dkwX10_emptySlots_0 : List UInt8 := [3, 60, 27, 16, 64, 162, 0, 31, 42, 180, 0, 59, 17, 0, 153, 27, 96, 2, 79, 42, 180, 0, 59]
abbrev dktX10_emptySlots_0 : List UInt8 := dkwX10_emptySlots_0 ++ dktX10_emptySlots_1
theorem dksX10_emptySlots_0 : cX10_emptySlots.data.toList.drop 0 = dktX10_emptySlots_0 := by decide +kernel
theorem dksX10_emptySlots_1 : cX10_emptySlots.data.toList.drop 23 = dktX10_emptySlots_1 := dk_seg dksX10_emptySlots_0 23 rfl rfl
theorem dX10_emptySlots_0 : decode cX10_emptySlots 0 = .ok (.iconst 0, 1) := dk_3 (dk_at dksX10_emptySlots_0 0 rfl rfl)
theorem dX10_emptySlots_1 : decode cX10_emptySlots 1 = .ok (.istore_n 1, 1) := dk_60 (dk_at dksX10_emptySlots_0 1 rfl rfl)
theorem dX10_emptySlots_2 : decode cX10_emptySlots 2 = .ok (.iload_n 1, 1) := dk_27 (dk_at dksX10_emptySlots_0 2 rfl rfl)
theorem dX10_emptySlots_3 : decode cX10_emptySlots 3 = .ok (.bipush 64, 2) := dk_16 64 (dk_at dksX10_emptySlots_0 3 rfl rfl)
theorem dX10_emptySlots_5 : decode cX10_emptySlots 5 = .ok (.if_icmp .ge 31, 3) := dk_162 0 31 (dk_at dksX10_emptySlots_0 5 rfl rfl)
theorem dX10_emptySlots_8 : decode cX10_emptySlots 8 = .ok (.aload_n 0, 1) := dk_42 (dk_at dksX10_emptySlots_0 8 rfl rfl)
theorem dX10_emptySlots_9 : decode cX10_emptySlots 9 = .ok (.getfield 59, 3) := dk_180 0 59 (dk_at dksX10_emptySlots_0 9 rfl rfl)
theorem dX10_emptySlots_12 : decode cX10_emptySlots 12 = .ok (.sipush 153, 3) := dk_17 0 153 (dk_at dksX10_emptySlots_0 12 rfl rfl)
theorem dX10_emptySlots_15 : decode cX10_emptySlots 15 = .ok (.iload_n 1, 1) := dk_27 (dk_at dksX10_emptySlots_0 15 rfl rfl)
theorem dX10_emptySlots_16 : decode cX10_emptySlots 16 = .ok (.iadd, 1) := dk_96 (dk_at dksX10_emptySlots_0 16 rfl rfl)
theorem dX10_emptySlots_17 : decode cX10_emptySlots 17 = .ok (.iconst (-1), 1) := dk_2 (dk_at dksX10_emptySlots_0 17 rfl rfl)
theorem dX10_emptySlots_18 : decode cX10_emptySlots 18 = .ok (.iastore, 1) := dk_79 (dk_at dksX10_emptySlots_0 18 rfl rfl)
theorem dX10_emptySlots_19 : decode cX10_emptySlots 19 = .ok (.aload_n 0, 1) := dk_42 (dk_at dksX10_emptySlots_0 19 rfl rfl)
theorem dX10_emptySlots_20 : decode cX10_emptySlots 20 = .ok (.getfield 59, 3) := dk_180 0 59 (dk_at dksX10_emptySlots_0 20 rfl rfl)
theorem dX10_emptySlots_23 : decode cX10_emptySlots 23 = .ok (.sipush 217, 3) := dk_17 0 217 (dk_at dksX10_emptySlots_1 0 rfl rfl)
theorem dX10_emptySlots_26 : decode cX10_emptySlots 26 = .ok (.iload_n 1, 1) := dk_27 (dk_at dksX10_emptySlots_1 3 rfl rfl)
theorem dX10_emptySlots_27 : decode cX10_emptySlots 27 = .ok (.iadd, 1) := dk_96 (dk_at dksX10_emptySlots_1 4 rfl rfl)
theorem dX10_emptySlots_28 : decode cX10_emptySlots 28 = .ok (.iconst (-1), 1) := dk_2 (dk_at dksX10_emptySlots_1 5 rfl rfl)
theorem dX10_emptySlots_29 : decode cX10_emptySlots 29 = .ok (.iastore, 1) := dk_79 (dk_at dksX10_emptySlots_1 6 rfl rfl)
theorem dX10_emptySlots_30 : decode cX10_emptySlots 30 = .ok (.iinc 1 1, 3) := dk_132 1 1 (dk_at dksX10_emptySlots_1 7 rfl rfl)
theorem dX10_emptySlots_33 : decode cX10_emptySlots 33 = .ok (.goto (-31), 3) := dk_167 255 225 (dk_at dksX10_emptySlots_1 10 rfl rfl)
theorem dX10_emptySlots_36 : decode cX10_emptySlots 36 = .ok (.return_, 1) := dk_177 (dk_at dksX10_emptySlots_1 13 rfl rfl)
abbrev cX10_fail : ByteArray := prog_22_method_3_code
def yX10_fail : MethodName := ⟨RX10, "fail", "(I)I"⟩
def dkwX10_fail_0 : List UInt8 := [42, 27, 181, 0, 121, 3, 172]
abbrev dktX10_fail_0 : List UInt8 := dkwX10_fail_0 ++ []
theorem dksX10_fail_0 : cX10_fail.data.toList.drop 0 = dktX10_fail_0 := by decide +kernel
theorem dX10_fail_0 : decode cX10_fail 0 = .ok (.aload_n 0, 1) := dk_42 (dk_at dksX10_fail_0 0 rfl rfl)
theorem dX10_fail_1 : decode cX10_fail 1 = .ok (.iload_n 1, 1) := dk_27 (dk_at dksX10_fail_0 1 rfl rfl)
theorem dX10_fail_2 : decode cX10_fail 2 = .ok (.putfield 121, 3) := dk_181 0 121 (dk_at dksX10_fail_0 2 rfl rfl)
theorem dX10_fail_5 : decode cX10_fail 5 = .ok (.iconst 0, 1) := dk_3 (dk_at dksX10_fail_0 5 rfl rfl)
theorem dX10_fail_6 : decode cX10_fail 6 = .ok (.ireturn, 1) := dk_172 (dk_at dksX10_fail_0 6 rfl rfl)
abbrev cX10_stepOn : ByteArray := prog_22_method_12_code
def yX10_stepOn : MethodName := ⟨RX10, "stepOn", "()V"⟩
def dkwX10_stepOn_9 : List UInt8 := [181, 0, 148, 42, 42, 180, 0, 138, 181, 0, 165, 177]
abbrev dktX10_stepOn_9 : List UInt8 := dkwX10_stepOn_9 ++ []
def dkwX10_stepOn_8 : List UInt8 := [42, 89, 180, 0, 138, 4, 96, 181, 0, 138, 42, 27, 184, 0, 162, 153, 0, 7, 6, 167, 0, 4, 7]
abbrev dktX10_stepOn_8 : List UInt8 := dkwX10_stepOn_8 ++ dktX10_stepOn_9
def dkwX10_stepOn_7 : List UInt8 := [181, 0, 158, 42, 89, 180, 0, 138, 4, 96, 181, 0, 138, 167, 255, 204, 42, 5, 181, 0, 148, 167, 0, 29]
abbrev dktX10_stepOn_7 : List UInt8 := dkwX10_stepOn_7 ++ dktX10_stepOn_8
def dkwX10_stepOn_6 : List UInt8 := [18, 161, 16, 10, 42, 180, 0, 158, 104, 42, 42, 180, 0, 138, 182, 0, 141, 96, 16, 48, 100, 184, 0, 124]
abbrev dktX10_stepOn_6 : List UInt8 := dkwX10_stepOn_6 ++ dktX10_stepOn_7
def dkwX10_stepOn_5 : List UInt8 := [153, 0, 71, 42, 3, 181, 0, 158, 42, 42, 180, 0, 138, 182, 0, 141, 184, 0, 155, 153, 0, 44, 42]
abbrev dktX10_stepOn_5 : List UInt8 := dkwX10_stepOn_5 ++ dktX10_stepOn_6
def dkwX10_stepOn_4 : List UInt8 := [180, 0, 138, 4, 96, 181, 0, 138, 167, 255, 232, 42, 4, 181, 0, 148, 167, 0, 104, 27, 184, 0, 155]
abbrev dktX10_stepOn_4 : List UInt8 := dkwX10_stepOn_4 ++ dktX10_stepOn_5
def dkwX10_stepOn_3 : List UInt8 := [184, 0, 151, 153, 0, 38, 42, 42, 180, 0, 138, 182, 0, 141, 184, 0, 151, 153, 0, 16, 42, 89]
abbrev dktX10_stepOn_3 : List UInt8 := dkwX10_stepOn_3 ++ dktX10_stepOn_4
def dkwX10_stepOn_2 : List UInt8 := [42, 42, 180, 0, 138, 182, 0, 141, 60, 27, 2, 160, 0, 11, 42, 3, 181, 0, 148, 167, 0, 146, 27]
abbrev dktX10_stepOn_2 : List UInt8 := dkwX10_stepOn_2 ++ dktX10_stepOn_3
def dkwX10_stepOn_1 : List UInt8 := [160, 0, 16, 42, 89, 180, 0, 138, 4, 96, 181, 0, 138, 167, 255, 220, 42, 42, 180, 0, 138, 181, 0, 145]
abbrev dktX10_stepOn_1 : List UInt8 := dkwX10_stepOn_1 ++ dktX10_stepOn_2
def dkwX10_stepOn_0 : List UInt8 := [42, 42, 180, 0, 138, 182, 0, 141, 16, 32, 159, 0, 16, 42, 42, 180, 0, 138, 182, 0, 141, 16, 10]
abbrev dktX10_stepOn_0 : List UInt8 := dkwX10_stepOn_0 ++ dktX10_stepOn_1
theorem dksX10_stepOn_0 : cX10_stepOn.data.toList.drop 0 = dktX10_stepOn_0 := by decide +kernel
theorem dksX10_stepOn_1 : cX10_stepOn.data.toList.drop 23 = dktX10_stepOn_1 := dk_seg dksX10_stepOn_0 23 rfl rfl
theorem dksX10_stepOn_2 : cX10_stepOn.data.toList.drop 47 = dktX10_stepOn_2 := dk_seg dksX10_stepOn_1 24 rfl rfl
theorem dksX10_stepOn_3 : cX10_stepOn.data.toList.drop 70 = dktX10_stepOn_3 := dk_seg dksX10_stepOn_2 23 rfl rfl
theorem dksX10_stepOn_4 : cX10_stepOn.data.toList.drop 92 = dktX10_stepOn_4 := dk_seg dksX10_stepOn_3 22 rfl rfl
theorem dksX10_stepOn_5 : cX10_stepOn.data.toList.drop 115 = dktX10_stepOn_5 := dk_seg dksX10_stepOn_4 23 rfl rfl
theorem dksX10_stepOn_6 : cX10_stepOn.data.toList.drop 138 = dktX10_stepOn_6 := dk_seg dksX10_stepOn_5 23 rfl rfl
theorem dksX10_stepOn_7 : cX10_stepOn.data.toList.drop 162 = dktX10_stepOn_7 := dk_seg dksX10_stepOn_6 24 rfl rfl
theorem dksX10_stepOn_8 : cX10_stepOn.data.toList.drop 186 = dktX10_stepOn_8 := dk_seg dksX10_stepOn_7 24 rfl rfl
theorem dksX10_stepOn_9 : cX10_stepOn.data.toList.drop 209 = dktX10_stepOn_9 := dk_seg dksX10_stepOn_8 23 rfl rfl
theorem dX10_stepOn_0 : decode cX10_stepOn 0 = .ok (.aload_n 0, 1) := dk_42 (dk_at dksX10_stepOn_0 0 rfl rfl)
theorem dX10_stepOn_1 : decode cX10_stepOn 1 = .ok (.aload_n 0, 1) := dk_42 (dk_at dksX10_stepOn_0 1 rfl rfl)
theorem dX10_stepOn_2 : decode cX10_stepOn 2 = .ok (.getfield 138, 3) := dk_180 0 138 (dk_at dksX10_stepOn_0 2 rfl rfl)
theorem dX10_stepOn_5 : decode cX10_stepOn 5 = .ok (.invokevirtual 141, 3) := dk_182 0 141 (dk_at dksX10_stepOn_0 5 rfl rfl)
theorem dX10_stepOn_8 : decode cX10_stepOn 8 = .ok (.bipush 32, 2) := dk_16 32 (dk_at dksX10_stepOn_0 8 rfl rfl)
theorem dX10_stepOn_10 : decode cX10_stepOn 10 = .ok (.if_icmp .eq 16, 3) := dk_159 0 16 (dk_at dksX10_stepOn_0 10 rfl rfl)
theorem dX10_stepOn_13 : decode cX10_stepOn 13 = .ok (.aload_n 0, 1) := dk_42 (dk_at dksX10_stepOn_0 13 rfl rfl)
theorem dX10_stepOn_14 : decode cX10_stepOn 14 = .ok (.aload_n 0, 1) := dk_42 (dk_at dksX10_stepOn_0 14 rfl rfl)
theorem dX10_stepOn_15 : decode cX10_stepOn 15 = .ok (.getfield 138, 3) := dk_180 0 138 (dk_at dksX10_stepOn_0 15 rfl rfl)
theorem dX10_stepOn_18 : decode cX10_stepOn 18 = .ok (.invokevirtual 141, 3) := dk_182 0 141 (dk_at dksX10_stepOn_0 18 rfl rfl)
theorem dX10_stepOn_21 : decode cX10_stepOn 21 = .ok (.bipush 10, 2) := dk_16 10 (dk_at dksX10_stepOn_0 21 rfl rfl)
theorem dX10_stepOn_23 : decode cX10_stepOn 23 = .ok (.if_icmp .ne 16, 3) := dk_160 0 16 (dk_at dksX10_stepOn_1 0 rfl rfl)
theorem dX10_stepOn_26 : decode cX10_stepOn 26 = .ok (.aload_n 0, 1) := dk_42 (dk_at dksX10_stepOn_1 3 rfl rfl)
theorem dX10_stepOn_27 : decode cX10_stepOn 27 = .ok (.dup, 1) := dk_89 (dk_at dksX10_stepOn_1 4 rfl rfl)
theorem dX10_stepOn_28 : decode cX10_stepOn 28 = .ok (.getfield 138, 3) := dk_180 0 138 (dk_at dksX10_stepOn_1 5 rfl rfl)
theorem dX10_stepOn_31 : decode cX10_stepOn 31 = .ok (.iconst 1, 1) := dk_4 (dk_at dksX10_stepOn_1 8 rfl rfl)
theorem dX10_stepOn_32 : decode cX10_stepOn 32 = .ok (.iadd, 1) := dk_96 (dk_at dksX10_stepOn_1 9 rfl rfl)
theorem dX10_stepOn_33 : decode cX10_stepOn 33 = .ok (.putfield 138, 3) := dk_181 0 138 (dk_at dksX10_stepOn_1 10 rfl rfl)
theorem dX10_stepOn_36 : decode cX10_stepOn 36 = .ok (.goto (-36), 3) := dk_167 255 220 (dk_at dksX10_stepOn_1 13 rfl rfl)
theorem dX10_stepOn_39 : decode cX10_stepOn 39 = .ok (.aload_n 0, 1) := dk_42 (dk_at dksX10_stepOn_1 16 rfl rfl)
theorem dX10_stepOn_40 : decode cX10_stepOn 40 = .ok (.aload_n 0, 1) := dk_42 (dk_at dksX10_stepOn_1 17 rfl rfl)
theorem dX10_stepOn_41 : decode cX10_stepOn 41 = .ok (.getfield 138, 3) := dk_180 0 138 (dk_at dksX10_stepOn_1 18 rfl rfl)
theorem dX10_stepOn_44 : decode cX10_stepOn 44 = .ok (.putfield 145, 3) := dk_181 0 145 (dk_at dksX10_stepOn_1 21 rfl rfl)
theorem dX10_stepOn_47 : decode cX10_stepOn 47 = .ok (.aload_n 0, 1) := dk_42 (dk_at dksX10_stepOn_2 0 rfl rfl)
theorem dX10_stepOn_48 : decode cX10_stepOn 48 = .ok (.aload_n 0, 1) := dk_42 (dk_at dksX10_stepOn_2 1 rfl rfl)
theorem dX10_stepOn_49 : decode cX10_stepOn 49 = .ok (.getfield 138, 3) := dk_180 0 138 (dk_at dksX10_stepOn_2 2 rfl rfl)
theorem dX10_stepOn_52 : decode cX10_stepOn 52 = .ok (.invokevirtual 141, 3) := dk_182 0 141 (dk_at dksX10_stepOn_2 5 rfl rfl)
theorem dX10_stepOn_55 : decode cX10_stepOn 55 = .ok (.istore_n 1, 1) := dk_60 (dk_at dksX10_stepOn_2 8 rfl rfl)
theorem dX10_stepOn_56 : decode cX10_stepOn 56 = .ok (.iload_n 1, 1) := dk_27 (dk_at dksX10_stepOn_2 9 rfl rfl)
theorem dX10_stepOn_57 : decode cX10_stepOn 57 = .ok (.iconst (-1), 1) := dk_2 (dk_at dksX10_stepOn_2 10 rfl rfl)
theorem dX10_stepOn_58 : decode cX10_stepOn 58 = .ok (.if_icmp .ne 11, 3) := dk_160 0 11 (dk_at dksX10_stepOn_2 11 rfl rfl)
theorem dX10_stepOn_61 : decode cX10_stepOn 61 = .ok (.aload_n 0, 1) := dk_42 (dk_at dksX10_stepOn_2 14 rfl rfl)
theorem dX10_stepOn_62 : decode cX10_stepOn 62 = .ok (.iconst 0, 1) := dk_3 (dk_at dksX10_stepOn_2 15 rfl rfl)
theorem dX10_stepOn_63 : decode cX10_stepOn 63 = .ok (.putfield 148, 3) := dk_181 0 148 (dk_at dksX10_stepOn_2 16 rfl rfl)
theorem dX10_stepOn_66 : decode cX10_stepOn 66 = .ok (.goto 146, 3) := dk_167 0 146 (dk_at dksX10_stepOn_2 19 rfl rfl)
theorem dX10_stepOn_69 : decode cX10_stepOn 69 = .ok (.iload_n 1, 1) := dk_27 (dk_at dksX10_stepOn_2 22 rfl rfl)
theorem dX10_stepOn_70 : decode cX10_stepOn 70 = .ok (.invokestatic 151, 3) := dk_184 0 151 (dk_at dksX10_stepOn_3 0 rfl rfl)
theorem dX10_stepOn_73 : decode cX10_stepOn 73 = .ok (.ifCond .eq 38, 3) := dk_153 0 38 (dk_at dksX10_stepOn_3 3 rfl rfl)
theorem dX10_stepOn_76 : decode cX10_stepOn 76 = .ok (.aload_n 0, 1) := dk_42 (dk_at dksX10_stepOn_3 6 rfl rfl)
theorem dX10_stepOn_77 : decode cX10_stepOn 77 = .ok (.aload_n 0, 1) := dk_42 (dk_at dksX10_stepOn_3 7 rfl rfl)
theorem dX10_stepOn_78 : decode cX10_stepOn 78 = .ok (.getfield 138, 3) := dk_180 0 138 (dk_at dksX10_stepOn_3 8 rfl rfl)
theorem dX10_stepOn_81 : decode cX10_stepOn 81 = .ok (.invokevirtual 141, 3) := dk_182 0 141 (dk_at dksX10_stepOn_3 11 rfl rfl)
theorem dX10_stepOn_84 : decode cX10_stepOn 84 = .ok (.invokestatic 151, 3) := dk_184 0 151 (dk_at dksX10_stepOn_3 14 rfl rfl)
theorem dX10_stepOn_87 : decode cX10_stepOn 87 = .ok (.ifCond .eq 16, 3) := dk_153 0 16 (dk_at dksX10_stepOn_3 17 rfl rfl)
theorem dX10_stepOn_90 : decode cX10_stepOn 90 = .ok (.aload_n 0, 1) := dk_42 (dk_at dksX10_stepOn_3 20 rfl rfl)
theorem dX10_stepOn_91 : decode cX10_stepOn 91 = .ok (.dup, 1) := dk_89 (dk_at dksX10_stepOn_3 21 rfl rfl)
theorem dX10_stepOn_92 : decode cX10_stepOn 92 = .ok (.getfield 138, 3) := dk_180 0 138 (dk_at dksX10_stepOn_4 0 rfl rfl)
theorem dX10_stepOn_95 : decode cX10_stepOn 95 = .ok (.iconst 1, 1) := dk_4 (dk_at dksX10_stepOn_4 3 rfl rfl)
theorem dX10_stepOn_96 : decode cX10_stepOn 96 = .ok (.iadd, 1) := dk_96 (dk_at dksX10_stepOn_4 4 rfl rfl)
theorem dX10_stepOn_97 : decode cX10_stepOn 97 = .ok (.putfield 138, 3) := dk_181 0 138 (dk_at dksX10_stepOn_4 5 rfl rfl)
theorem dX10_stepOn_100 : decode cX10_stepOn 100 = .ok (.goto (-24), 3) := dk_167 255 232 (dk_at dksX10_stepOn_4 8 rfl rfl)
theorem dX10_stepOn_103 : decode cX10_stepOn 103 = .ok (.aload_n 0, 1) := dk_42 (dk_at dksX10_stepOn_4 11 rfl rfl)
theorem dX10_stepOn_104 : decode cX10_stepOn 104 = .ok (.iconst 1, 1) := dk_4 (dk_at dksX10_stepOn_4 12 rfl rfl)
theorem dX10_stepOn_105 : decode cX10_stepOn 105 = .ok (.putfield 148, 3) := dk_181 0 148 (dk_at dksX10_stepOn_4 13 rfl rfl)
theorem dX10_stepOn_108 : decode cX10_stepOn 108 = .ok (.goto 104, 3) := dk_167 0 104 (dk_at dksX10_stepOn_4 16 rfl rfl)
theorem dX10_stepOn_111 : decode cX10_stepOn 111 = .ok (.iload_n 1, 1) := dk_27 (dk_at dksX10_stepOn_4 19 rfl rfl)
theorem dX10_stepOn_112 : decode cX10_stepOn 112 = .ok (.invokestatic 155, 3) := dk_184 0 155 (dk_at dksX10_stepOn_4 20 rfl rfl)
theorem dX10_stepOn_115 : decode cX10_stepOn 115 = .ok (.ifCond .eq 71, 3) := dk_153 0 71 (dk_at dksX10_stepOn_5 0 rfl rfl)
theorem dX10_stepOn_118 : decode cX10_stepOn 118 = .ok (.aload_n 0, 1) := dk_42 (dk_at dksX10_stepOn_5 3 rfl rfl)
theorem dX10_stepOn_119 : decode cX10_stepOn 119 = .ok (.iconst 0, 1) := dk_3 (dk_at dksX10_stepOn_5 4 rfl rfl)
theorem dX10_stepOn_120 : decode cX10_stepOn 120 = .ok (.putfield 158, 3) := dk_181 0 158 (dk_at dksX10_stepOn_5 5 rfl rfl)
theorem dX10_stepOn_123 : decode cX10_stepOn 123 = .ok (.aload_n 0, 1) := dk_42 (dk_at dksX10_stepOn_5 8 rfl rfl)
theorem dX10_stepOn_124 : decode cX10_stepOn 124 = .ok (.aload_n 0, 1) := dk_42 (dk_at dksX10_stepOn_5 9 rfl rfl)
theorem dX10_stepOn_125 : decode cX10_stepOn 125 = .ok (.getfield 138, 3) := dk_180 0 138 (dk_at dksX10_stepOn_5 10 rfl rfl)
theorem dX10_stepOn_128 : decode cX10_stepOn 128 = .ok (.invokevirtual 141, 3) := dk_182 0 141 (dk_at dksX10_stepOn_5 13 rfl rfl)
theorem dX10_stepOn_131 : decode cX10_stepOn 131 = .ok (.invokestatic 155, 3) := dk_184 0 155 (dk_at dksX10_stepOn_5 16 rfl rfl)
theorem dX10_stepOn_134 : decode cX10_stepOn 134 = .ok (.ifCond .eq 44, 3) := dk_153 0 44 (dk_at dksX10_stepOn_5 19 rfl rfl)
theorem dX10_stepOn_137 : decode cX10_stepOn 137 = .ok (.aload_n 0, 1) := dk_42 (dk_at dksX10_stepOn_5 22 rfl rfl)
theorem dX10_stepOn_138 : decode cX10_stepOn 138 = .ok (.ldc 161, 2) := dk_18 161 (dk_at dksX10_stepOn_6 0 rfl rfl)
theorem dX10_stepOn_140 : decode cX10_stepOn 140 = .ok (.bipush 10, 2) := dk_16 10 (dk_at dksX10_stepOn_6 2 rfl rfl)
theorem dX10_stepOn_142 : decode cX10_stepOn 142 = .ok (.aload_n 0, 1) := dk_42 (dk_at dksX10_stepOn_6 4 rfl rfl)
theorem dX10_stepOn_143 : decode cX10_stepOn 143 = .ok (.getfield 158, 3) := dk_180 0 158 (dk_at dksX10_stepOn_6 5 rfl rfl)
theorem dX10_stepOn_146 : decode cX10_stepOn 146 = .ok (.imul, 1) := dk_104 (dk_at dksX10_stepOn_6 8 rfl rfl)
theorem dX10_stepOn_147 : decode cX10_stepOn 147 = .ok (.aload_n 0, 1) := dk_42 (dk_at dksX10_stepOn_6 9 rfl rfl)
theorem dX10_stepOn_148 : decode cX10_stepOn 148 = .ok (.aload_n 0, 1) := dk_42 (dk_at dksX10_stepOn_6 10 rfl rfl)
theorem dX10_stepOn_149 : decode cX10_stepOn 149 = .ok (.getfield 138, 3) := dk_180 0 138 (dk_at dksX10_stepOn_6 11 rfl rfl)
theorem dX10_stepOn_152 : decode cX10_stepOn 152 = .ok (.invokevirtual 141, 3) := dk_182 0 141 (dk_at dksX10_stepOn_6 14 rfl rfl)
theorem dX10_stepOn_155 : decode cX10_stepOn 155 = .ok (.iadd, 1) := dk_96 (dk_at dksX10_stepOn_6 17 rfl rfl)
theorem dX10_stepOn_156 : decode cX10_stepOn 156 = .ok (.bipush 48, 2) := dk_16 48 (dk_at dksX10_stepOn_6 18 rfl rfl)
theorem dX10_stepOn_158 : decode cX10_stepOn 158 = .ok (.isub, 1) := dk_100 (dk_at dksX10_stepOn_6 20 rfl rfl)
theorem dX10_stepOn_159 : decode cX10_stepOn 159 = .ok (.invokestatic 124, 3) := dk_184 0 124 (dk_at dksX10_stepOn_6 21 rfl rfl)
theorem dX10_stepOn_162 : decode cX10_stepOn 162 = .ok (.putfield 158, 3) := dk_181 0 158 (dk_at dksX10_stepOn_7 0 rfl rfl)
theorem dX10_stepOn_165 : decode cX10_stepOn 165 = .ok (.aload_n 0, 1) := dk_42 (dk_at dksX10_stepOn_7 3 rfl rfl)
theorem dX10_stepOn_166 : decode cX10_stepOn 166 = .ok (.dup, 1) := dk_89 (dk_at dksX10_stepOn_7 4 rfl rfl)
theorem dX10_stepOn_167 : decode cX10_stepOn 167 = .ok (.getfield 138, 3) := dk_180 0 138 (dk_at dksX10_stepOn_7 5 rfl rfl)
theorem dX10_stepOn_170 : decode cX10_stepOn 170 = .ok (.iconst 1, 1) := dk_4 (dk_at dksX10_stepOn_7 8 rfl rfl)
theorem dX10_stepOn_171 : decode cX10_stepOn 171 = .ok (.iadd, 1) := dk_96 (dk_at dksX10_stepOn_7 9 rfl rfl)
theorem dX10_stepOn_172 : decode cX10_stepOn 172 = .ok (.putfield 138, 3) := dk_181 0 138 (dk_at dksX10_stepOn_7 10 rfl rfl)
theorem dX10_stepOn_175 : decode cX10_stepOn 175 = .ok (.goto (-52), 3) := dk_167 255 204 (dk_at dksX10_stepOn_7 13 rfl rfl)
theorem dX10_stepOn_178 : decode cX10_stepOn 178 = .ok (.aload_n 0, 1) := dk_42 (dk_at dksX10_stepOn_7 16 rfl rfl)
theorem dX10_stepOn_179 : decode cX10_stepOn 179 = .ok (.iconst 2, 1) := dk_5 (dk_at dksX10_stepOn_7 17 rfl rfl)
theorem dX10_stepOn_180 : decode cX10_stepOn 180 = .ok (.putfield 148, 3) := dk_181 0 148 (dk_at dksX10_stepOn_7 18 rfl rfl)
theorem dX10_stepOn_183 : decode cX10_stepOn 183 = .ok (.goto 29, 3) := dk_167 0 29 (dk_at dksX10_stepOn_7 21 rfl rfl)
theorem dX10_stepOn_186 : decode cX10_stepOn 186 = .ok (.aload_n 0, 1) := dk_42 (dk_at dksX10_stepOn_8 0 rfl rfl)
theorem dX10_stepOn_187 : decode cX10_stepOn 187 = .ok (.dup, 1) := dk_89 (dk_at dksX10_stepOn_8 1 rfl rfl)
theorem dX10_stepOn_188 : decode cX10_stepOn 188 = .ok (.getfield 138, 3) := dk_180 0 138 (dk_at dksX10_stepOn_8 2 rfl rfl)
theorem dX10_stepOn_191 : decode cX10_stepOn 191 = .ok (.iconst 1, 1) := dk_4 (dk_at dksX10_stepOn_8 5 rfl rfl)
theorem dX10_stepOn_192 : decode cX10_stepOn 192 = .ok (.iadd, 1) := dk_96 (dk_at dksX10_stepOn_8 6 rfl rfl)
theorem dX10_stepOn_193 : decode cX10_stepOn 193 = .ok (.putfield 138, 3) := dk_181 0 138 (dk_at dksX10_stepOn_8 7 rfl rfl)
theorem dX10_stepOn_196 : decode cX10_stepOn 196 = .ok (.aload_n 0, 1) := dk_42 (dk_at dksX10_stepOn_8 10 rfl rfl)
theorem dX10_stepOn_197 : decode cX10_stepOn 197 = .ok (.iload_n 1, 1) := dk_27 (dk_at dksX10_stepOn_8 11 rfl rfl)
theorem dX10_stepOn_198 : decode cX10_stepOn 198 = .ok (.invokestatic 162, 3) := dk_184 0 162 (dk_at dksX10_stepOn_8 12 rfl rfl)
theorem dX10_stepOn_201 : decode cX10_stepOn 201 = .ok (.ifCond .eq 7, 3) := dk_153 0 7 (dk_at dksX10_stepOn_8 15 rfl rfl)
theorem dX10_stepOn_204 : decode cX10_stepOn 204 = .ok (.iconst 3, 1) := dk_6 (dk_at dksX10_stepOn_8 18 rfl rfl)
theorem dX10_stepOn_205 : decode cX10_stepOn 205 = .ok (.goto 4, 3) := dk_167 0 4 (dk_at dksX10_stepOn_8 19 rfl rfl)
theorem dX10_stepOn_208 : decode cX10_stepOn 208 = .ok (.iconst 4, 1) := dk_7 (dk_at dksX10_stepOn_8 22 rfl rfl)
theorem dX10_stepOn_209 : decode cX10_stepOn 209 = .ok (.putfield 148, 3) := dk_181 0 148 (dk_at dksX10_stepOn_9 0 rfl rfl)
theorem dX10_stepOn_212 : decode cX10_stepOn 212 = .ok (.aload_n 0, 1) := dk_42 (dk_at dksX10_stepOn_9 3 rfl rfl)
theorem dX10_stepOn_213 : decode cX10_stepOn 213 = .ok (.aload_n 0, 1) := dk_42 (dk_at dksX10_stepOn_9 4 rfl rfl)
theorem dX10_stepOn_214 : decode cX10_stepOn 214 = .ok (.getfield 138, 3) := dk_180 0 138 (dk_at dksX10_stepOn_9 5 rfl rfl)
theorem dX10_stepOn_217 : decode cX10_stepOn 217 = .ok (.putfield 165, 3) := dk_181 0 165 (dk_at dksX10_stepOn_9 8 rfl rfl)
theorem dX10_stepOn_220 : decode cX10_stepOn 220 = .ok (.return_, 1) := dk_177 (dk_at dksX10_stepOn_9 11 rfl rfl)
abbrev cX10_byteAt : ByteArray := prog_22_method_8_code
def yX10_byteAt : MethodName := ⟨RX10, "byteAt", "(I)I"⟩
def dkwX10_byteAt_0 : List UInt8 := [27, 42, 180, 0, 136, 162, 0, 12, 42, 180, 0, 62, 27, 46, 167, 0, 4, 2, 172]
abbrev dktX10_byteAt_0 : List UInt8 := dkwX10_byteAt_0 ++ []
theorem dksX10_byteAt_0 : cX10_byteAt.data.toList.drop 0 = dktX10_byteAt_0 := by decide +kernel
theorem dX10_byteAt_0 : decode cX10_byteAt 0 = .ok (.iload_n 1, 1) := dk_27 (dk_at dksX10_byteAt_0 0 rfl rfl)
theorem dX10_byteAt_1 : decode cX10_byteAt 1 = .ok (.aload_n 0, 1) := dk_42 (dk_at dksX10_byteAt_0 1 rfl rfl)
theorem dX10_byteAt_2 : decode cX10_byteAt 2 = .ok (.getfield 136, 3) := dk_180 0 136 (dk_at dksX10_byteAt_0 2 rfl rfl)
theorem dX10_byteAt_5 : decode cX10_byteAt 5 = .ok (.if_icmp .ge 12, 3) := dk_162 0 12 (dk_at dksX10_byteAt_0 5 rfl rfl)
theorem dX10_byteAt_8 : decode cX10_byteAt 8 = .ok (.aload_n 0, 1) := dk_42 (dk_at dksX10_byteAt_0 8 rfl rfl)
theorem dX10_byteAt_9 : decode cX10_byteAt 9 = .ok (.getfield 62, 3) := dk_180 0 62 (dk_at dksX10_byteAt_0 9 rfl rfl)
theorem dX10_byteAt_12 : decode cX10_byteAt 12 = .ok (.iload_n 1, 1) := dk_27 (dk_at dksX10_byteAt_0 12 rfl rfl)
theorem dX10_byteAt_13 : decode cX10_byteAt 13 = .ok (.iaload, 1) := dk_46 (dk_at dksX10_byteAt_0 13 rfl rfl)
theorem dX10_byteAt_14 : decode cX10_byteAt 14 = .ok (.goto 4, 3) := dk_167 0 4 (dk_at dksX10_byteAt_0 14 rfl rfl)
theorem dX10_byteAt_17 : decode cX10_byteAt 17 = .ok (.iconst (-1), 1) := dk_2 (dk_at dksX10_byteAt_0 17 rfl rfl)
theorem dX10_byteAt_18 : decode cX10_byteAt 18 = .ok (.ireturn, 1) := dk_172 (dk_at dksX10_byteAt_0 18 rfl rfl)
abbrev cX10_isLetter : ByteArray := prog_22_method_9_code
def yX10_isLetter : MethodName := ⟨RX10, "isLetter", "(I)Z"⟩
def dkwX10_isLetter_0 : List UInt8 := [26, 16, 97, 161, 0, 13, 26, 16, 122, 163, 0, 7, 4, 167, 0, 4, 3, 172]
abbrev dktX10_isLetter_0 : List UInt8 := dkwX10_isLetter_0 ++ []
theorem dksX10_isLetter_0 : cX10_isLetter.data.toList.drop 0 = dktX10_isLetter_0 := by decide +kernel
theorem dX10_isLetter_0 : decode cX10_isLetter 0 = .ok (.iload_n 0, 1) := dk_26 (dk_at dksX10_isLetter_0 0 rfl rfl)
theorem dX10_isLetter_1 : decode cX10_isLetter 1 = .ok (.bipush 97, 2) := dk_16 97 (dk_at dksX10_isLetter_0 1 rfl rfl)
theorem dX10_isLetter_3 : decode cX10_isLetter 3 = .ok (.if_icmp .lt 13, 3) := dk_161 0 13 (dk_at dksX10_isLetter_0 3 rfl rfl)
theorem dX10_isLetter_6 : decode cX10_isLetter 6 = .ok (.iload_n 0, 1) := dk_26 (dk_at dksX10_isLetter_0 6 rfl rfl)
theorem dX10_isLetter_7 : decode cX10_isLetter 7 = .ok (.bipush 122, 2) := dk_16 122 (dk_at dksX10_isLetter_0 7 rfl rfl)
theorem dX10_isLetter_9 : decode cX10_isLetter 9 = .ok (.if_icmp .gt 7, 3) := dk_163 0 7 (dk_at dksX10_isLetter_0 9 rfl rfl)
theorem dX10_isLetter_12 : decode cX10_isLetter 12 = .ok (.iconst 1, 1) := dk_4 (dk_at dksX10_isLetter_0 12 rfl rfl)
theorem dX10_isLetter_13 : decode cX10_isLetter 13 = .ok (.goto 4, 3) := dk_167 0 4 (dk_at dksX10_isLetter_0 13 rfl rfl)
theorem dX10_isLetter_16 : decode cX10_isLetter 16 = .ok (.iconst 0, 1) := dk_3 (dk_at dksX10_isLetter_0 16 rfl rfl)
theorem dX10_isLetter_17 : decode cX10_isLetter 17 = .ok (.ireturn, 1) := dk_172 (dk_at dksX10_isLetter_0 17 rfl rfl)
abbrev cX10_isDigit : ByteArray := prog_22_method_10_code
def yX10_isDigit : MethodName := ⟨RX10, "isDigit", "(I)Z"⟩
def dkwX10_isDigit_0 : List UInt8 := [26, 16, 48, 161, 0, 13, 26, 16, 57, 163, 0, 7, 4, 167, 0, 4, 3, 172]
abbrev dktX10_isDigit_0 : List UInt8 := dkwX10_isDigit_0 ++ []
theorem dksX10_isDigit_0 : cX10_isDigit.data.toList.drop 0 = dktX10_isDigit_0 := by decide +kernel
theorem dX10_isDigit_0 : decode cX10_isDigit 0 = .ok (.iload_n 0, 1) := dk_26 (dk_at dksX10_isDigit_0 0 rfl rfl)
theorem dX10_isDigit_1 : decode cX10_isDigit 1 = .ok (.bipush 48, 2) := dk_16 48 (dk_at dksX10_isDigit_0 1 rfl rfl)
theorem dX10_isDigit_3 : decode cX10_isDigit 3 = .ok (.if_icmp .lt 13, 3) := dk_161 0 13 (dk_at dksX10_isDigit_0 3 rfl rfl)
theorem dX10_isDigit_6 : decode cX10_isDigit 6 = .ok (.iload_n 0, 1) := dk_26 (dk_at dksX10_isDigit_0 6 rfl rfl)
theorem dX10_isDigit_7 : decode cX10_isDigit 7 = .ok (.bipush 57, 2) := dk_16 57 (dk_at dksX10_isDigit_0 7 rfl rfl)
theorem dX10_isDigit_9 : decode cX10_isDigit 9 = .ok (.if_icmp .gt 7, 3) := dk_163 0 7 (dk_at dksX10_isDigit_0 9 rfl rfl)
theorem dX10_isDigit_12 : decode cX10_isDigit 12 = .ok (.iconst 1, 1) := dk_4 (dk_at dksX10_isDigit_0 12 rfl rfl)
theorem dX10_isDigit_13 : decode cX10_isDigit 13 = .ok (.goto 4, 3) := dk_167 0 4 (dk_at dksX10_isDigit_0 13 rfl rfl)
theorem dX10_isDigit_16 : decode cX10_isDigit 16 = .ok (.iconst 0, 1) := dk_3 (dk_at dksX10_isDigit_0 16 rfl rfl)
theorem dX10_isDigit_17 : decode cX10_isDigit 17 = .ok (.ireturn, 1) := dk_172 (dk_at dksX10_isDigit_0 17 rfl rfl)
abbrev cX10_isMark : ByteArray := prog_22_method_11_code
def yX10_isMark : MethodName := ⟨RX10, "isMark", "(I)Z"⟩
def dkwX10_isMark_2 : List UInt8 := [26, 16, 61, 160, 0, 7, 4, 167, 0, 4, 3, 172]
abbrev dktX10_isMark_2 : List UInt8 := dkwX10_isMark_2 ++ []
def dkwX10_isMark_1 : List UInt8 := [26, 16, 45, 159, 0, 27, 26, 16, 42, 159, 0, 21, 26, 16, 47, 159, 0, 15, 26, 16, 60, 159, 0, 9]
abbrev dktX10_isMark_1 : List UInt8 := dkwX10_isMark_1 ++ dktX10_isMark_2
def dkwX10_isMark_0 : List UInt8 := [26, 16, 59, 159, 0, 51, 26, 16, 40, 159, 0, 45, 26, 16, 41, 159, 0, 39, 26, 16, 43, 159, 0, 33]
abbrev dktX10_isMark_0 : List UInt8 := dkwX10_isMark_0 ++ dktX10_isMark_1
theorem dksX10_isMark_0 : cX10_isMark.data.toList.drop 0 = dktX10_isMark_0 := by decide +kernel
theorem dksX10_isMark_1 : cX10_isMark.data.toList.drop 24 = dktX10_isMark_1 := dk_seg dksX10_isMark_0 24 rfl rfl
theorem dksX10_isMark_2 : cX10_isMark.data.toList.drop 48 = dktX10_isMark_2 := dk_seg dksX10_isMark_1 24 rfl rfl
theorem dX10_isMark_0 : decode cX10_isMark 0 = .ok (.iload_n 0, 1) := dk_26 (dk_at dksX10_isMark_0 0 rfl rfl)
theorem dX10_isMark_1 : decode cX10_isMark 1 = .ok (.bipush 59, 2) := dk_16 59 (dk_at dksX10_isMark_0 1 rfl rfl)
theorem dX10_isMark_3 : decode cX10_isMark 3 = .ok (.if_icmp .eq 51, 3) := dk_159 0 51 (dk_at dksX10_isMark_0 3 rfl rfl)
theorem dX10_isMark_6 : decode cX10_isMark 6 = .ok (.iload_n 0, 1) := dk_26 (dk_at dksX10_isMark_0 6 rfl rfl)
theorem dX10_isMark_7 : decode cX10_isMark 7 = .ok (.bipush 40, 2) := dk_16 40 (dk_at dksX10_isMark_0 7 rfl rfl)
theorem dX10_isMark_9 : decode cX10_isMark 9 = .ok (.if_icmp .eq 45, 3) := dk_159 0 45 (dk_at dksX10_isMark_0 9 rfl rfl)
theorem dX10_isMark_12 : decode cX10_isMark 12 = .ok (.iload_n 0, 1) := dk_26 (dk_at dksX10_isMark_0 12 rfl rfl)
theorem dX10_isMark_13 : decode cX10_isMark 13 = .ok (.bipush 41, 2) := dk_16 41 (dk_at dksX10_isMark_0 13 rfl rfl)
theorem dX10_isMark_15 : decode cX10_isMark 15 = .ok (.if_icmp .eq 39, 3) := dk_159 0 39 (dk_at dksX10_isMark_0 15 rfl rfl)
theorem dX10_isMark_18 : decode cX10_isMark 18 = .ok (.iload_n 0, 1) := dk_26 (dk_at dksX10_isMark_0 18 rfl rfl)
theorem dX10_isMark_19 : decode cX10_isMark 19 = .ok (.bipush 43, 2) := dk_16 43 (dk_at dksX10_isMark_0 19 rfl rfl)
theorem dX10_isMark_21 : decode cX10_isMark 21 = .ok (.if_icmp .eq 33, 3) := dk_159 0 33 (dk_at dksX10_isMark_0 21 rfl rfl)
theorem dX10_isMark_24 : decode cX10_isMark 24 = .ok (.iload_n 0, 1) := dk_26 (dk_at dksX10_isMark_1 0 rfl rfl)
theorem dX10_isMark_25 : decode cX10_isMark 25 = .ok (.bipush 45, 2) := dk_16 45 (dk_at dksX10_isMark_1 1 rfl rfl)
theorem dX10_isMark_27 : decode cX10_isMark 27 = .ok (.if_icmp .eq 27, 3) := dk_159 0 27 (dk_at dksX10_isMark_1 3 rfl rfl)
theorem dX10_isMark_30 : decode cX10_isMark 30 = .ok (.iload_n 0, 1) := dk_26 (dk_at dksX10_isMark_1 6 rfl rfl)
theorem dX10_isMark_31 : decode cX10_isMark 31 = .ok (.bipush 42, 2) := dk_16 42 (dk_at dksX10_isMark_1 7 rfl rfl)
theorem dX10_isMark_33 : decode cX10_isMark 33 = .ok (.if_icmp .eq 21, 3) := dk_159 0 21 (dk_at dksX10_isMark_1 9 rfl rfl)
theorem dX10_isMark_36 : decode cX10_isMark 36 = .ok (.iload_n 0, 1) := dk_26 (dk_at dksX10_isMark_1 12 rfl rfl)
theorem dX10_isMark_37 : decode cX10_isMark 37 = .ok (.bipush 47, 2) := dk_16 47 (dk_at dksX10_isMark_1 13 rfl rfl)
theorem dX10_isMark_39 : decode cX10_isMark 39 = .ok (.if_icmp .eq 15, 3) := dk_159 0 15 (dk_at dksX10_isMark_1 15 rfl rfl)
theorem dX10_isMark_42 : decode cX10_isMark 42 = .ok (.iload_n 0, 1) := dk_26 (dk_at dksX10_isMark_1 18 rfl rfl)
theorem dX10_isMark_43 : decode cX10_isMark 43 = .ok (.bipush 60, 2) := dk_16 60 (dk_at dksX10_isMark_1 19 rfl rfl)
theorem dX10_isMark_45 : decode cX10_isMark 45 = .ok (.if_icmp .eq 9, 3) := dk_159 0 9 (dk_at dksX10_isMark_1 21 rfl rfl)
theorem dX10_isMark_48 : decode cX10_isMark 48 = .ok (.iload_n 0, 1) := dk_26 (dk_at dksX10_isMark_2 0 rfl rfl)
theorem dX10_isMark_49 : decode cX10_isMark 49 = .ok (.bipush 61, 2) := dk_16 61 (dk_at dksX10_isMark_2 1 rfl rfl)
theorem dX10_isMark_51 : decode cX10_isMark 51 = .ok (.if_icmp .ne 7, 3) := dk_160 0 7 (dk_at dksX10_isMark_2 3 rfl rfl)
theorem dX10_isMark_54 : decode cX10_isMark 54 = .ok (.iconst 1, 1) := dk_4 (dk_at dksX10_isMark_2 6 rfl rfl)
theorem dX10_isMark_55 : decode cX10_isMark 55 = .ok (.goto 4, 3) := dk_167 0 4 (dk_at dksX10_isMark_2 7 rfl rfl)
theorem dX10_isMark_58 : decode cX10_isMark 58 = .ok (.iconst 0, 1) := dk_3 (dk_at dksX10_isMark_2 10 rfl rfl)
theorem dX10_isMark_59 : decode cX10_isMark 59 = .ok (.ireturn, 1) := dk_172 (dk_at dksX10_isMark_2 11 rfl rfl)
abbrev cX10_readLine : ByteArray := prog_22_method_28_code
def yX10_readLine : MethodName := ⟨RX10, "readLine", "(I)I"⟩
def dkwX10_readLine_2 : List UInt8 := [42, 28, 182, 0, 244, 42, 16, 59, 182, 0, 210, 27, 4, 28, 120, 128, 172]
abbrev dktX10_readLine_2 : List UInt8 := dkwX10_readLine_2 ++ []
def dkwX10_readLine_1 : List UInt8 := [184, 0, 240, 153, 0, 8, 42, 8, 182, 0, 189, 42, 180, 0, 168, 153, 0, 5, 27, 172, 42, 182, 0, 193]
abbrev dktX10_readLine_1 : List UInt8 := dkwX10_readLine_1 ++ dktX10_readLine_2
def dkwX10_readLine_0 : List UInt8 := [42, 42, 180, 0, 41, 182, 0, 206, 61, 28, 2, 160, 0, 11, 42, 4, 182, 0, 189, 167, 0, 16, 27, 28]
abbrev dktX10_readLine_0 : List UInt8 := dkwX10_readLine_0 ++ dktX10_readLine_1
theorem dksX10_readLine_0 : cX10_readLine.data.toList.drop 0 = dktX10_readLine_0 := by decide +kernel
theorem dksX10_readLine_1 : cX10_readLine.data.toList.drop 24 = dktX10_readLine_1 := dk_seg dksX10_readLine_0 24 rfl rfl
theorem dksX10_readLine_2 : cX10_readLine.data.toList.drop 48 = dktX10_readLine_2 := dk_seg dksX10_readLine_1 24 rfl rfl
theorem dX10_readLine_0 : decode cX10_readLine 0 = .ok (.aload_n 0, 1) := dk_42 (dk_at dksX10_readLine_0 0 rfl rfl)
theorem dX10_readLine_1 : decode cX10_readLine 1 = .ok (.aload_n 0, 1) := dk_42 (dk_at dksX10_readLine_0 1 rfl rfl)
theorem dX10_readLine_2 : decode cX10_readLine 2 = .ok (.getfield 41, 3) := dk_180 0 41 (dk_at dksX10_readLine_0 2 rfl rfl)
theorem dX10_readLine_5 : decode cX10_readLine 5 = .ok (.invokevirtual 206, 3) := dk_182 0 206 (dk_at dksX10_readLine_0 5 rfl rfl)
theorem dX10_readLine_8 : decode cX10_readLine 8 = .ok (.istore_n 2, 1) := dk_61 (dk_at dksX10_readLine_0 8 rfl rfl)
theorem dX10_readLine_9 : decode cX10_readLine 9 = .ok (.iload_n 2, 1) := dk_28 (dk_at dksX10_readLine_0 9 rfl rfl)
theorem dX10_readLine_10 : decode cX10_readLine 10 = .ok (.iconst (-1), 1) := dk_2 (dk_at dksX10_readLine_0 10 rfl rfl)
theorem dX10_readLine_11 : decode cX10_readLine 11 = .ok (.if_icmp .ne 11, 3) := dk_160 0 11 (dk_at dksX10_readLine_0 11 rfl rfl)
theorem dX10_readLine_14 : decode cX10_readLine 14 = .ok (.aload_n 0, 1) := dk_42 (dk_at dksX10_readLine_0 14 rfl rfl)
theorem dX10_readLine_15 : decode cX10_readLine 15 = .ok (.iconst 1, 1) := dk_4 (dk_at dksX10_readLine_0 15 rfl rfl)
theorem dX10_readLine_16 : decode cX10_readLine 16 = .ok (.invokevirtual 189, 3) := dk_182 0 189 (dk_at dksX10_readLine_0 16 rfl rfl)
theorem dX10_readLine_19 : decode cX10_readLine 19 = .ok (.goto 16, 3) := dk_167 0 16 (dk_at dksX10_readLine_0 19 rfl rfl)
theorem dX10_readLine_22 : decode cX10_readLine 22 = .ok (.iload_n 1, 1) := dk_27 (dk_at dksX10_readLine_0 22 rfl rfl)
theorem dX10_readLine_23 : decode cX10_readLine 23 = .ok (.iload_n 2, 1) := dk_28 (dk_at dksX10_readLine_0 23 rfl rfl)
theorem dX10_readLine_24 : decode cX10_readLine 24 = .ok (.invokestatic 240, 3) := dk_184 0 240 (dk_at dksX10_readLine_1 0 rfl rfl)
theorem dX10_readLine_27 : decode cX10_readLine 27 = .ok (.ifCond .eq 8, 3) := dk_153 0 8 (dk_at dksX10_readLine_1 3 rfl rfl)
theorem dX10_readLine_30 : decode cX10_readLine 30 = .ok (.aload_n 0, 1) := dk_42 (dk_at dksX10_readLine_1 6 rfl rfl)
theorem dX10_readLine_31 : decode cX10_readLine 31 = .ok (.iconst 5, 1) := dk_8 (dk_at dksX10_readLine_1 7 rfl rfl)
theorem dX10_readLine_32 : decode cX10_readLine 32 = .ok (.invokevirtual 189, 3) := dk_182 0 189 (dk_at dksX10_readLine_1 8 rfl rfl)
theorem dX10_readLine_35 : decode cX10_readLine 35 = .ok (.aload_n 0, 1) := dk_42 (dk_at dksX10_readLine_1 11 rfl rfl)
theorem dX10_readLine_36 : decode cX10_readLine 36 = .ok (.getfield 168, 3) := dk_180 0 168 (dk_at dksX10_readLine_1 12 rfl rfl)
theorem dX10_readLine_39 : decode cX10_readLine 39 = .ok (.ifCond .eq 5, 3) := dk_153 0 5 (dk_at dksX10_readLine_1 15 rfl rfl)
theorem dX10_readLine_42 : decode cX10_readLine 42 = .ok (.iload_n 1, 1) := dk_27 (dk_at dksX10_readLine_1 18 rfl rfl)
theorem dX10_readLine_43 : decode cX10_readLine 43 = .ok (.ireturn, 1) := dk_172 (dk_at dksX10_readLine_1 19 rfl rfl)
theorem dX10_readLine_44 : decode cX10_readLine 44 = .ok (.aload_n 0, 1) := dk_42 (dk_at dksX10_readLine_1 20 rfl rfl)
theorem dX10_readLine_45 : decode cX10_readLine 45 = .ok (.invokevirtual 193, 3) := dk_182 0 193 (dk_at dksX10_readLine_1 21 rfl rfl)
theorem dX10_readLine_48 : decode cX10_readLine 48 = .ok (.aload_n 0, 1) := dk_42 (dk_at dksX10_readLine_2 0 rfl rfl)
theorem dX10_readLine_49 : decode cX10_readLine 49 = .ok (.iload_n 2, 1) := dk_28 (dk_at dksX10_readLine_2 1 rfl rfl)
theorem dX10_readLine_50 : decode cX10_readLine 50 = .ok (.invokevirtual 244, 3) := dk_182 0 244 (dk_at dksX10_readLine_2 2 rfl rfl)
theorem dX10_readLine_53 : decode cX10_readLine 53 = .ok (.aload_n 0, 1) := dk_42 (dk_at dksX10_readLine_2 5 rfl rfl)
theorem dX10_readLine_54 : decode cX10_readLine 54 = .ok (.bipush 59, 2) := dk_16 59 (dk_at dksX10_readLine_2 6 rfl rfl)
theorem dX10_readLine_56 : decode cX10_readLine 56 = .ok (.invokevirtual 210, 3) := dk_182 0 210 (dk_at dksX10_readLine_2 8 rfl rfl)
theorem dX10_readLine_59 : decode cX10_readLine 59 = .ok (.iload_n 1, 1) := dk_27 (dk_at dksX10_readLine_2 11 rfl rfl)
theorem dX10_readLine_60 : decode cX10_readLine 60 = .ok (.iconst 1, 1) := dk_4 (dk_at dksX10_readLine_2 12 rfl rfl)
theorem dX10_readLine_61 : decode cX10_readLine 61 = .ok (.iload_n 2, 1) := dk_28 (dk_at dksX10_readLine_2 13 rfl rfl)
theorem dX10_readLine_62 : decode cX10_readLine 62 = .ok (.ishl, 1) := dk_120 (dk_at dksX10_readLine_2 14 rfl rfl)
theorem dX10_readLine_63 : decode cX10_readLine 63 = .ok (.ior, 1) := dk_128 (dk_at dksX10_readLine_2 15 rfl rfl)
theorem dX10_readLine_64 : decode cX10_readLine 64 = .ok (.ireturn, 1) := dk_172 (dk_at dksX10_readLine_2 16 rfl rfl)
abbrev cX10_which : ByteArray := prog_22_method_15_code
def yX10_which : MethodName := ⟨RX10, "which", "([Ljava/lang/String;)I"⟩
def dkwX10_which_1 : List UInt8 := [167, 255, 235, 2, 172]
abbrev dktX10_which_1 : List UInt8 := dkwX10_which_1 ++ []
def dkwX10_which_0 : List UInt8 := [3, 61, 28, 43, 190, 162, 0, 21, 42, 43, 28, 50, 182, 0, 182, 153, 0, 5, 28, 172, 132, 2, 1]
abbrev dktX10_which_0 : List UInt8 := dkwX10_which_0 ++ dktX10_which_1
theorem dksX10_which_0 : cX10_which.data.toList.drop 0 = dktX10_which_0 := by decide +kernel
theorem dksX10_which_1 : cX10_which.data.toList.drop 23 = dktX10_which_1 := dk_seg dksX10_which_0 23 rfl rfl
theorem dX10_which_0 : decode cX10_which 0 = .ok (.iconst 0, 1) := dk_3 (dk_at dksX10_which_0 0 rfl rfl)
theorem dX10_which_1 : decode cX10_which 1 = .ok (.istore_n 2, 1) := dk_61 (dk_at dksX10_which_0 1 rfl rfl)
theorem dX10_which_2 : decode cX10_which 2 = .ok (.iload_n 2, 1) := dk_28 (dk_at dksX10_which_0 2 rfl rfl)
theorem dX10_which_3 : decode cX10_which 3 = .ok (.aload_n 1, 1) := dk_43 (dk_at dksX10_which_0 3 rfl rfl)
theorem dX10_which_4 : decode cX10_which 4 = .ok (.arraylength, 1) := dk_190 (dk_at dksX10_which_0 4 rfl rfl)
theorem dX10_which_5 : decode cX10_which 5 = .ok (.if_icmp .ge 21, 3) := dk_162 0 21 (dk_at dksX10_which_0 5 rfl rfl)
theorem dX10_which_8 : decode cX10_which 8 = .ok (.aload_n 0, 1) := dk_42 (dk_at dksX10_which_0 8 rfl rfl)
theorem dX10_which_9 : decode cX10_which 9 = .ok (.aload_n 1, 1) := dk_43 (dk_at dksX10_which_0 9 rfl rfl)
theorem dX10_which_10 : decode cX10_which 10 = .ok (.iload_n 2, 1) := dk_28 (dk_at dksX10_which_0 10 rfl rfl)
theorem dX10_which_11 : decode cX10_which 11 = .ok (.aaload, 1) := dk_50 (dk_at dksX10_which_0 11 rfl rfl)
theorem dX10_which_12 : decode cX10_which 12 = .ok (.invokevirtual 182, 3) := dk_182 0 182 (dk_at dksX10_which_0 12 rfl rfl)
theorem dX10_which_15 : decode cX10_which 15 = .ok (.ifCond .eq 5, 3) := dk_153 0 5 (dk_at dksX10_which_0 15 rfl rfl)
theorem dX10_which_18 : decode cX10_which 18 = .ok (.iload_n 2, 1) := dk_28 (dk_at dksX10_which_0 18 rfl rfl)
theorem dX10_which_19 : decode cX10_which 19 = .ok (.ireturn, 1) := dk_172 (dk_at dksX10_which_0 19 rfl rfl)
theorem dX10_which_20 : decode cX10_which 20 = .ok (.iinc 2 1, 3) := dk_132 2 1 (dk_at dksX10_which_0 20 rfl rfl)
theorem dX10_which_23 : decode cX10_which 23 = .ok (.goto (-21), 3) := dk_167 255 235 (dk_at dksX10_which_1 0 rfl rfl)
theorem dX10_which_26 : decode cX10_which 26 = .ok (.iconst (-1), 1) := dk_2 (dk_at dksX10_which_1 3 rfl rfl)
theorem dX10_which_27 : decode cX10_which 27 = .ok (.ireturn, 1) := dk_172 (dk_at dksX10_which_1 4 rfl rfl)
abbrev cX10_is : ByteArray := prog_22_method_14_code
def yX10_is : MethodName := ⟨RX10, "is", "(Ljava/lang/String;)Z"⟩
def dkwX10_is_3 : List UInt8 := [167, 0, 4, 3, 61, 132, 3, 1, 167, 255, 216, 28, 172]
abbrev dktX10_is_3 : List UInt8 := dkwX10_is_3 ++ []
def dkwX10_is_2 : List UInt8 := [162, 0, 34, 43, 29, 182, 0, 178, 42, 180, 0, 62, 42, 180, 0, 145, 29, 96, 46, 160, 0, 7, 4]
abbrev dktX10_is_2 : List UInt8 := dkwX10_is_2 ++ dktX10_is_3
def dkwX10_is_1 : List UInt8 := [180, 0, 145, 100, 160, 0, 7, 4, 167, 0, 4, 3, 61, 3, 62, 28, 153, 0, 42, 29, 43, 182, 0, 174]
abbrev dktX10_is_1 : List UInt8 := dkwX10_is_1 ++ dktX10_is_2
def dkwX10_is_0 : List UInt8 := [42, 180, 0, 168, 154, 0, 31, 42, 180, 0, 148, 4, 160, 0, 23, 43, 182, 0, 174, 42, 180, 0, 165, 42]
abbrev dktX10_is_0 : List UInt8 := dkwX10_is_0 ++ dktX10_is_1
theorem dksX10_is_0 : cX10_is.data.toList.drop 0 = dktX10_is_0 := by decide +kernel
theorem dksX10_is_1 : cX10_is.data.toList.drop 24 = dktX10_is_1 := dk_seg dksX10_is_0 24 rfl rfl
theorem dksX10_is_2 : cX10_is.data.toList.drop 48 = dktX10_is_2 := dk_seg dksX10_is_1 24 rfl rfl
theorem dksX10_is_3 : cX10_is.data.toList.drop 71 = dktX10_is_3 := dk_seg dksX10_is_2 23 rfl rfl
theorem dX10_is_0 : decode cX10_is 0 = .ok (.aload_n 0, 1) := dk_42 (dk_at dksX10_is_0 0 rfl rfl)
theorem dX10_is_1 : decode cX10_is 1 = .ok (.getfield 168, 3) := dk_180 0 168 (dk_at dksX10_is_0 1 rfl rfl)
theorem dX10_is_4 : decode cX10_is 4 = .ok (.ifCond .ne 31, 3) := dk_154 0 31 (dk_at dksX10_is_0 4 rfl rfl)
theorem dX10_is_7 : decode cX10_is 7 = .ok (.aload_n 0, 1) := dk_42 (dk_at dksX10_is_0 7 rfl rfl)
theorem dX10_is_8 : decode cX10_is 8 = .ok (.getfield 148, 3) := dk_180 0 148 (dk_at dksX10_is_0 8 rfl rfl)
theorem dX10_is_11 : decode cX10_is 11 = .ok (.iconst 1, 1) := dk_4 (dk_at dksX10_is_0 11 rfl rfl)
theorem dX10_is_12 : decode cX10_is 12 = .ok (.if_icmp .ne 23, 3) := dk_160 0 23 (dk_at dksX10_is_0 12 rfl rfl)
theorem dX10_is_15 : decode cX10_is 15 = .ok (.aload_n 1, 1) := dk_43 (dk_at dksX10_is_0 15 rfl rfl)
theorem dX10_is_16 : decode cX10_is 16 = .ok (.invokevirtual 174, 3) := dk_182 0 174 (dk_at dksX10_is_0 16 rfl rfl)
theorem dX10_is_19 : decode cX10_is 19 = .ok (.aload_n 0, 1) := dk_42 (dk_at dksX10_is_0 19 rfl rfl)
theorem dX10_is_20 : decode cX10_is 20 = .ok (.getfield 165, 3) := dk_180 0 165 (dk_at dksX10_is_0 20 rfl rfl)
theorem dX10_is_23 : decode cX10_is 23 = .ok (.aload_n 0, 1) := dk_42 (dk_at dksX10_is_0 23 rfl rfl)
theorem dX10_is_24 : decode cX10_is 24 = .ok (.getfield 145, 3) := dk_180 0 145 (dk_at dksX10_is_1 0 rfl rfl)
theorem dX10_is_27 : decode cX10_is 27 = .ok (.isub, 1) := dk_100 (dk_at dksX10_is_1 3 rfl rfl)
theorem dX10_is_28 : decode cX10_is 28 = .ok (.if_icmp .ne 7, 3) := dk_160 0 7 (dk_at dksX10_is_1 4 rfl rfl)
theorem dX10_is_31 : decode cX10_is 31 = .ok (.iconst 1, 1) := dk_4 (dk_at dksX10_is_1 7 rfl rfl)
theorem dX10_is_32 : decode cX10_is 32 = .ok (.goto 4, 3) := dk_167 0 4 (dk_at dksX10_is_1 8 rfl rfl)
theorem dX10_is_35 : decode cX10_is 35 = .ok (.iconst 0, 1) := dk_3 (dk_at dksX10_is_1 11 rfl rfl)
theorem dX10_is_36 : decode cX10_is 36 = .ok (.istore_n 2, 1) := dk_61 (dk_at dksX10_is_1 12 rfl rfl)
theorem dX10_is_37 : decode cX10_is 37 = .ok (.iconst 0, 1) := dk_3 (dk_at dksX10_is_1 13 rfl rfl)
theorem dX10_is_38 : decode cX10_is 38 = .ok (.istore_n 3, 1) := dk_62 (dk_at dksX10_is_1 14 rfl rfl)
theorem dX10_is_39 : decode cX10_is 39 = .ok (.iload_n 2, 1) := dk_28 (dk_at dksX10_is_1 15 rfl rfl)
theorem dX10_is_40 : decode cX10_is 40 = .ok (.ifCond .eq 42, 3) := dk_153 0 42 (dk_at dksX10_is_1 16 rfl rfl)
theorem dX10_is_43 : decode cX10_is 43 = .ok (.iload_n 3, 1) := dk_29 (dk_at dksX10_is_1 19 rfl rfl)
theorem dX10_is_44 : decode cX10_is 44 = .ok (.aload_n 1, 1) := dk_43 (dk_at dksX10_is_1 20 rfl rfl)
theorem dX10_is_45 : decode cX10_is 45 = .ok (.invokevirtual 174, 3) := dk_182 0 174 (dk_at dksX10_is_1 21 rfl rfl)
theorem dX10_is_48 : decode cX10_is 48 = .ok (.if_icmp .ge 34, 3) := dk_162 0 34 (dk_at dksX10_is_2 0 rfl rfl)
theorem dX10_is_51 : decode cX10_is 51 = .ok (.aload_n 1, 1) := dk_43 (dk_at dksX10_is_2 3 rfl rfl)
theorem dX10_is_52 : decode cX10_is 52 = .ok (.iload_n 3, 1) := dk_29 (dk_at dksX10_is_2 4 rfl rfl)
theorem dX10_is_53 : decode cX10_is 53 = .ok (.invokevirtual 178, 3) := dk_182 0 178 (dk_at dksX10_is_2 5 rfl rfl)
theorem dX10_is_56 : decode cX10_is 56 = .ok (.aload_n 0, 1) := dk_42 (dk_at dksX10_is_2 8 rfl rfl)
theorem dX10_is_57 : decode cX10_is 57 = .ok (.getfield 62, 3) := dk_180 0 62 (dk_at dksX10_is_2 9 rfl rfl)
theorem dX10_is_60 : decode cX10_is 60 = .ok (.aload_n 0, 1) := dk_42 (dk_at dksX10_is_2 12 rfl rfl)
theorem dX10_is_61 : decode cX10_is 61 = .ok (.getfield 145, 3) := dk_180 0 145 (dk_at dksX10_is_2 13 rfl rfl)
theorem dX10_is_64 : decode cX10_is 64 = .ok (.iload_n 3, 1) := dk_29 (dk_at dksX10_is_2 16 rfl rfl)
theorem dX10_is_65 : decode cX10_is 65 = .ok (.iadd, 1) := dk_96 (dk_at dksX10_is_2 17 rfl rfl)
theorem dX10_is_66 : decode cX10_is 66 = .ok (.iaload, 1) := dk_46 (dk_at dksX10_is_2 18 rfl rfl)
theorem dX10_is_67 : decode cX10_is 67 = .ok (.if_icmp .ne 7, 3) := dk_160 0 7 (dk_at dksX10_is_2 19 rfl rfl)
theorem dX10_is_70 : decode cX10_is 70 = .ok (.iconst 1, 1) := dk_4 (dk_at dksX10_is_2 22 rfl rfl)
theorem dX10_is_71 : decode cX10_is 71 = .ok (.goto 4, 3) := dk_167 0 4 (dk_at dksX10_is_3 0 rfl rfl)
theorem dX10_is_74 : decode cX10_is 74 = .ok (.iconst 0, 1) := dk_3 (dk_at dksX10_is_3 3 rfl rfl)
theorem dX10_is_75 : decode cX10_is 75 = .ok (.istore_n 2, 1) := dk_61 (dk_at dksX10_is_3 4 rfl rfl)
theorem dX10_is_76 : decode cX10_is 76 = .ok (.iinc 3 1, 3) := dk_132 3 1 (dk_at dksX10_is_3 5 rfl rfl)
theorem dX10_is_79 : decode cX10_is 79 = .ok (.goto (-40), 3) := dk_167 255 216 (dk_at dksX10_is_3 8 rfl rfl)
theorem dX10_is_82 : decode cX10_is 82 = .ok (.iload_n 2, 1) := dk_28 (dk_at dksX10_is_3 11 rfl rfl)
theorem dX10_is_83 : decode cX10_is 83 = .ok (.ireturn, 1) := dk_172 (dk_at dksX10_is_3 12 rfl rfl)
abbrev cX10_wrong : ByteArray := prog_22_method_13_code
def yX10_wrong : MethodName := ⟨RX10, "wrong", "(I)V"⟩
def dkwX10_wrong_0 : List UInt8 := [42, 180, 0, 168, 153, 0, 4, 177, 42, 27, 181, 0, 168, 42, 42, 180, 0, 145, 181, 0, 171, 177]
abbrev dktX10_wrong_0 : List UInt8 := dkwX10_wrong_0 ++ []
theorem dksX10_wrong_0 : cX10_wrong.data.toList.drop 0 = dktX10_wrong_0 := by decide +kernel
theorem dX10_wrong_0 : decode cX10_wrong 0 = .ok (.aload_n 0, 1) := dk_42 (dk_at dksX10_wrong_0 0 rfl rfl)
theorem dX10_wrong_1 : decode cX10_wrong 1 = .ok (.getfield 168, 3) := dk_180 0 168 (dk_at dksX10_wrong_0 1 rfl rfl)
theorem dX10_wrong_4 : decode cX10_wrong 4 = .ok (.ifCond .eq 4, 3) := dk_153 0 4 (dk_at dksX10_wrong_0 4 rfl rfl)
theorem dX10_wrong_7 : decode cX10_wrong 7 = .ok (.return_, 1) := dk_177 (dk_at dksX10_wrong_0 7 rfl rfl)
theorem dX10_wrong_8 : decode cX10_wrong 8 = .ok (.aload_n 0, 1) := dk_42 (dk_at dksX10_wrong_0 8 rfl rfl)
theorem dX10_wrong_9 : decode cX10_wrong 9 = .ok (.iload_n 1, 1) := dk_27 (dk_at dksX10_wrong_0 9 rfl rfl)
theorem dX10_wrong_10 : decode cX10_wrong 10 = .ok (.putfield 168, 3) := dk_181 0 168 (dk_at dksX10_wrong_0 10 rfl rfl)
theorem dX10_wrong_13 : decode cX10_wrong 13 = .ok (.aload_n 0, 1) := dk_42 (dk_at dksX10_wrong_0 13 rfl rfl)
theorem dX10_wrong_14 : decode cX10_wrong 14 = .ok (.aload_n 0, 1) := dk_42 (dk_at dksX10_wrong_0 14 rfl rfl)
theorem dX10_wrong_15 : decode cX10_wrong 15 = .ok (.getfield 145, 3) := dk_180 0 145 (dk_at dksX10_wrong_0 15 rfl rfl)
theorem dX10_wrong_18 : decode cX10_wrong 18 = .ok (.putfield 171, 3) := dk_181 0 171 (dk_at dksX10_wrong_0 18 rfl rfl)
theorem dX10_wrong_21 : decode cX10_wrong 21 = .ok (.return_, 1) := dk_177 (dk_at dksX10_wrong_0 21 rfl rfl)
abbrev cX10_isOf : ByteArray := prog_22_method_5_code
def yX10_isOf : MethodName := ⟨RX10, "isOf", "(II)Z"⟩
def dkwX10_isOf_0 : List UInt8 := [26, 27, 122, 4, 126, 4, 160, 0, 7, 4, 167, 0, 4, 3, 172]
abbrev dktX10_isOf_0 : List UInt8 := dkwX10_isOf_0 ++ []
theorem dksX10_isOf_0 : cX10_isOf.data.toList.drop 0 = dktX10_isOf_0 := by decide +kernel
theorem dX10_isOf_0 : decode cX10_isOf 0 = .ok (.iload_n 0, 1) := dk_26 (dk_at dksX10_isOf_0 0 rfl rfl)
theorem dX10_isOf_1 : decode cX10_isOf 1 = .ok (.iload_n 1, 1) := dk_27 (dk_at dksX10_isOf_0 1 rfl rfl)
theorem dX10_isOf_2 : decode cX10_isOf 2 = .ok (.ishr, 1) := dk_122 (dk_at dksX10_isOf_0 2 rfl rfl)
theorem dX10_isOf_3 : decode cX10_isOf 3 = .ok (.iconst 1, 1) := dk_4 (dk_at dksX10_isOf_0 3 rfl rfl)
theorem dX10_isOf_4 : decode cX10_isOf 4 = .ok (.iand, 1) := dk_126 (dk_at dksX10_isOf_0 4 rfl rfl)
theorem dX10_isOf_5 : decode cX10_isOf 5 = .ok (.iconst 1, 1) := dk_4 (dk_at dksX10_isOf_0 5 rfl rfl)
theorem dX10_isOf_6 : decode cX10_isOf 6 = .ok (.if_icmp .ne 7, 3) := dk_160 0 7 (dk_at dksX10_isOf_0 6 rfl rfl)
theorem dX10_isOf_9 : decode cX10_isOf 9 = .ok (.iconst 1, 1) := dk_4 (dk_at dksX10_isOf_0 9 rfl rfl)
theorem dX10_isOf_10 : decode cX10_isOf 10 = .ok (.goto 4, 3) := dk_167 0 4 (dk_at dksX10_isOf_0 10 rfl rfl)
theorem dX10_isOf_13 : decode cX10_isOf 13 = .ok (.iconst 0, 1) := dk_3 (dk_at dksX10_isOf_0 13 rfl rfl)
theorem dX10_isOf_14 : decode cX10_isOf 14 = .ok (.ireturn, 1) := dk_172 (dk_at dksX10_isOf_0 14 rfl rfl)
abbrev cX10_readClause : ByteArray := prog_22_method_27_code
def yX10_readClause : MethodName := ⟨RX10, "readClause", "(I)V"⟩
def dkwX10_readClause_8 : List UInt8 := [182, 0, 213, 177]
abbrev dktX10_readClause_8 : List UInt8 := dkwX10_readClause_8 ++ []
def dkwX10_readClause_7 : List UInt8 := [16, 7, 162, 0, 4, 177, 42, 27, 16, 8, 160, 0, 7, 4, 167, 0, 4, 3, 181, 0, 196, 42, 3]
abbrev dktX10_readClause_7 : List UInt8 := dkwX10_readClause_7 ++ dktX10_readClause_8
def dkwX10_readClause_6 : List UInt8 := [180, 0, 44, 16, 16, 42, 4, 16, 8, 182, 0, 200, 79, 27, 16, 6, 160, 0, 7, 42, 182, 0, 237, 27]
abbrev dktX10_readClause_6 : List UInt8 := dkwX10_readClause_6 ++ dktX10_readClause_7
def dkwX10_readClause_5 : List UInt8 := [180, 0, 44, 16, 15, 28, 153, 0, 8, 29, 116, 167, 0, 4, 29, 79, 27, 8, 160, 0, 17, 42]
abbrev dktX10_readClause_5 : List UInt8 := dkwX10_readClause_5 ++ dktX10_readClause_6
def dkwX10_readClause_4 : List UInt8 := [16, 45, 182, 0, 186, 61, 28, 153, 0, 7, 42, 182, 0, 193, 42, 3, 16, 99, 182, 0, 200, 62, 42]
abbrev dktX10_readClause_4 : List UInt8 := dkwX10_readClause_4 ++ dktX10_readClause_5
def dkwX10_readClause_3 : List UInt8 := [160, 0, 17, 42, 180, 0, 44, 16, 14, 42, 4, 16, 16, 182, 0, 200, 79, 27, 7, 160, 0, 43, 42]
abbrev dktX10_readClause_3 : List UInt8 := dkwX10_readClause_3 ++ dktX10_readClause_4
def dkwX10_readClause_2 : List UInt8 := [42, 3, 16, 9, 182, 0, 200, 79, 42, 180, 0, 44, 16, 13, 42, 3, 16, 9, 182, 0, 200, 79, 27, 6]
abbrev dktX10_readClause_2 : List UInt8 := dkwX10_readClause_2 ++ dktX10_readClause_3
def dkwX10_readClause_1 : List UInt8 := [180, 0, 44, 16, 11, 42, 4, 16, 64, 182, 0, 200, 79, 27, 5, 160, 0, 31, 42, 180, 0, 44, 16, 12]
abbrev dktX10_readClause_1 : List UInt8 := dkwX10_readClause_1 ++ dktX10_readClause_2
def dkwX10_readClause_0 : List UInt8 := [27, 154, 0, 17, 42, 180, 0, 44, 16, 10, 42, 4, 16, 8, 182, 0, 200, 79, 27, 4, 160, 0, 17, 42]
abbrev dktX10_readClause_0 : List UInt8 := dkwX10_readClause_0 ++ dktX10_readClause_1
theorem dksX10_readClause_0 : cX10_readClause.data.toList.drop 0 = dktX10_readClause_0 := by decide +kernel
theorem dksX10_readClause_1 : cX10_readClause.data.toList.drop 24 = dktX10_readClause_1 := dk_seg dksX10_readClause_0 24 rfl rfl
theorem dksX10_readClause_2 : cX10_readClause.data.toList.drop 48 = dktX10_readClause_2 := dk_seg dksX10_readClause_1 24 rfl rfl
theorem dksX10_readClause_3 : cX10_readClause.data.toList.drop 72 = dktX10_readClause_3 := dk_seg dksX10_readClause_2 24 rfl rfl
theorem dksX10_readClause_4 : cX10_readClause.data.toList.drop 95 = dktX10_readClause_4 := dk_seg dksX10_readClause_3 23 rfl rfl
theorem dksX10_readClause_5 : cX10_readClause.data.toList.drop 118 = dktX10_readClause_5 := dk_seg dksX10_readClause_4 23 rfl rfl
theorem dksX10_readClause_6 : cX10_readClause.data.toList.drop 140 = dktX10_readClause_6 := dk_seg dksX10_readClause_5 22 rfl rfl
theorem dksX10_readClause_7 : cX10_readClause.data.toList.drop 164 = dktX10_readClause_7 := dk_seg dksX10_readClause_6 24 rfl rfl
theorem dksX10_readClause_8 : cX10_readClause.data.toList.drop 187 = dktX10_readClause_8 := dk_seg dksX10_readClause_7 23 rfl rfl
theorem dX10_readClause_0 : decode cX10_readClause 0 = .ok (.iload_n 1, 1) := dk_27 (dk_at dksX10_readClause_0 0 rfl rfl)
theorem dX10_readClause_1 : decode cX10_readClause 1 = .ok (.ifCond .ne 17, 3) := dk_154 0 17 (dk_at dksX10_readClause_0 1 rfl rfl)
theorem dX10_readClause_4 : decode cX10_readClause 4 = .ok (.aload_n 0, 1) := dk_42 (dk_at dksX10_readClause_0 4 rfl rfl)
theorem dX10_readClause_5 : decode cX10_readClause 5 = .ok (.getfield 44, 3) := dk_180 0 44 (dk_at dksX10_readClause_0 5 rfl rfl)
theorem dX10_readClause_8 : decode cX10_readClause 8 = .ok (.bipush 10, 2) := dk_16 10 (dk_at dksX10_readClause_0 8 rfl rfl)
theorem dX10_readClause_10 : decode cX10_readClause 10 = .ok (.aload_n 0, 1) := dk_42 (dk_at dksX10_readClause_0 10 rfl rfl)
theorem dX10_readClause_11 : decode cX10_readClause 11 = .ok (.iconst 1, 1) := dk_4 (dk_at dksX10_readClause_0 11 rfl rfl)
theorem dX10_readClause_12 : decode cX10_readClause 12 = .ok (.bipush 8, 2) := dk_16 8 (dk_at dksX10_readClause_0 12 rfl rfl)
theorem dX10_readClause_14 : decode cX10_readClause 14 = .ok (.invokevirtual 200, 3) := dk_182 0 200 (dk_at dksX10_readClause_0 14 rfl rfl)
theorem dX10_readClause_17 : decode cX10_readClause 17 = .ok (.iastore, 1) := dk_79 (dk_at dksX10_readClause_0 17 rfl rfl)
theorem dX10_readClause_18 : decode cX10_readClause 18 = .ok (.iload_n 1, 1) := dk_27 (dk_at dksX10_readClause_0 18 rfl rfl)
theorem dX10_readClause_19 : decode cX10_readClause 19 = .ok (.iconst 1, 1) := dk_4 (dk_at dksX10_readClause_0 19 rfl rfl)
theorem dX10_readClause_20 : decode cX10_readClause 20 = .ok (.if_icmp .ne 17, 3) := dk_160 0 17 (dk_at dksX10_readClause_0 20 rfl rfl)
theorem dX10_readClause_23 : decode cX10_readClause 23 = .ok (.aload_n 0, 1) := dk_42 (dk_at dksX10_readClause_0 23 rfl rfl)
theorem dX10_readClause_24 : decode cX10_readClause 24 = .ok (.getfield 44, 3) := dk_180 0 44 (dk_at dksX10_readClause_1 0 rfl rfl)
theorem dX10_readClause_27 : decode cX10_readClause 27 = .ok (.bipush 11, 2) := dk_16 11 (dk_at dksX10_readClause_1 3 rfl rfl)
theorem dX10_readClause_29 : decode cX10_readClause 29 = .ok (.aload_n 0, 1) := dk_42 (dk_at dksX10_readClause_1 5 rfl rfl)
theorem dX10_readClause_30 : decode cX10_readClause 30 = .ok (.iconst 1, 1) := dk_4 (dk_at dksX10_readClause_1 6 rfl rfl)
theorem dX10_readClause_31 : decode cX10_readClause 31 = .ok (.bipush 64, 2) := dk_16 64 (dk_at dksX10_readClause_1 7 rfl rfl)
theorem dX10_readClause_33 : decode cX10_readClause 33 = .ok (.invokevirtual 200, 3) := dk_182 0 200 (dk_at dksX10_readClause_1 9 rfl rfl)
theorem dX10_readClause_36 : decode cX10_readClause 36 = .ok (.iastore, 1) := dk_79 (dk_at dksX10_readClause_1 12 rfl rfl)
theorem dX10_readClause_37 : decode cX10_readClause 37 = .ok (.iload_n 1, 1) := dk_27 (dk_at dksX10_readClause_1 13 rfl rfl)
theorem dX10_readClause_38 : decode cX10_readClause 38 = .ok (.iconst 2, 1) := dk_5 (dk_at dksX10_readClause_1 14 rfl rfl)
theorem dX10_readClause_39 : decode cX10_readClause 39 = .ok (.if_icmp .ne 31, 3) := dk_160 0 31 (dk_at dksX10_readClause_1 15 rfl rfl)
theorem dX10_readClause_42 : decode cX10_readClause 42 = .ok (.aload_n 0, 1) := dk_42 (dk_at dksX10_readClause_1 18 rfl rfl)
theorem dX10_readClause_43 : decode cX10_readClause 43 = .ok (.getfield 44, 3) := dk_180 0 44 (dk_at dksX10_readClause_1 19 rfl rfl)
theorem dX10_readClause_46 : decode cX10_readClause 46 = .ok (.bipush 12, 2) := dk_16 12 (dk_at dksX10_readClause_1 22 rfl rfl)
theorem dX10_readClause_48 : decode cX10_readClause 48 = .ok (.aload_n 0, 1) := dk_42 (dk_at dksX10_readClause_2 0 rfl rfl)
theorem dX10_readClause_49 : decode cX10_readClause 49 = .ok (.iconst 0, 1) := dk_3 (dk_at dksX10_readClause_2 1 rfl rfl)
theorem dX10_readClause_50 : decode cX10_readClause 50 = .ok (.bipush 9, 2) := dk_16 9 (dk_at dksX10_readClause_2 2 rfl rfl)
theorem dX10_readClause_52 : decode cX10_readClause 52 = .ok (.invokevirtual 200, 3) := dk_182 0 200 (dk_at dksX10_readClause_2 4 rfl rfl)
theorem dX10_readClause_55 : decode cX10_readClause 55 = .ok (.iastore, 1) := dk_79 (dk_at dksX10_readClause_2 7 rfl rfl)
theorem dX10_readClause_56 : decode cX10_readClause 56 = .ok (.aload_n 0, 1) := dk_42 (dk_at dksX10_readClause_2 8 rfl rfl)
theorem dX10_readClause_57 : decode cX10_readClause 57 = .ok (.getfield 44, 3) := dk_180 0 44 (dk_at dksX10_readClause_2 9 rfl rfl)
theorem dX10_readClause_60 : decode cX10_readClause 60 = .ok (.bipush 13, 2) := dk_16 13 (dk_at dksX10_readClause_2 12 rfl rfl)
theorem dX10_readClause_62 : decode cX10_readClause 62 = .ok (.aload_n 0, 1) := dk_42 (dk_at dksX10_readClause_2 14 rfl rfl)
theorem dX10_readClause_63 : decode cX10_readClause 63 = .ok (.iconst 0, 1) := dk_3 (dk_at dksX10_readClause_2 15 rfl rfl)
theorem dX10_readClause_64 : decode cX10_readClause 64 = .ok (.bipush 9, 2) := dk_16 9 (dk_at dksX10_readClause_2 16 rfl rfl)
theorem dX10_readClause_66 : decode cX10_readClause 66 = .ok (.invokevirtual 200, 3) := dk_182 0 200 (dk_at dksX10_readClause_2 18 rfl rfl)
theorem dX10_readClause_69 : decode cX10_readClause 69 = .ok (.iastore, 1) := dk_79 (dk_at dksX10_readClause_2 21 rfl rfl)
theorem dX10_readClause_70 : decode cX10_readClause 70 = .ok (.iload_n 1, 1) := dk_27 (dk_at dksX10_readClause_2 22 rfl rfl)
theorem dX10_readClause_71 : decode cX10_readClause 71 = .ok (.iconst 3, 1) := dk_6 (dk_at dksX10_readClause_2 23 rfl rfl)
theorem dX10_readClause_72 : decode cX10_readClause 72 = .ok (.if_icmp .ne 17, 3) := dk_160 0 17 (dk_at dksX10_readClause_3 0 rfl rfl)
theorem dX10_readClause_75 : decode cX10_readClause 75 = .ok (.aload_n 0, 1) := dk_42 (dk_at dksX10_readClause_3 3 rfl rfl)
theorem dX10_readClause_76 : decode cX10_readClause 76 = .ok (.getfield 44, 3) := dk_180 0 44 (dk_at dksX10_readClause_3 4 rfl rfl)
theorem dX10_readClause_79 : decode cX10_readClause 79 = .ok (.bipush 14, 2) := dk_16 14 (dk_at dksX10_readClause_3 7 rfl rfl)
theorem dX10_readClause_81 : decode cX10_readClause 81 = .ok (.aload_n 0, 1) := dk_42 (dk_at dksX10_readClause_3 9 rfl rfl)
theorem dX10_readClause_82 : decode cX10_readClause 82 = .ok (.iconst 1, 1) := dk_4 (dk_at dksX10_readClause_3 10 rfl rfl)
theorem dX10_readClause_83 : decode cX10_readClause 83 = .ok (.bipush 16, 2) := dk_16 16 (dk_at dksX10_readClause_3 11 rfl rfl)
theorem dX10_readClause_85 : decode cX10_readClause 85 = .ok (.invokevirtual 200, 3) := dk_182 0 200 (dk_at dksX10_readClause_3 13 rfl rfl)
theorem dX10_readClause_88 : decode cX10_readClause 88 = .ok (.iastore, 1) := dk_79 (dk_at dksX10_readClause_3 16 rfl rfl)
theorem dX10_readClause_89 : decode cX10_readClause 89 = .ok (.iload_n 1, 1) := dk_27 (dk_at dksX10_readClause_3 17 rfl rfl)
theorem dX10_readClause_90 : decode cX10_readClause 90 = .ok (.iconst 4, 1) := dk_7 (dk_at dksX10_readClause_3 18 rfl rfl)
theorem dX10_readClause_91 : decode cX10_readClause 91 = .ok (.if_icmp .ne 43, 3) := dk_160 0 43 (dk_at dksX10_readClause_3 19 rfl rfl)
theorem dX10_readClause_94 : decode cX10_readClause 94 = .ok (.aload_n 0, 1) := dk_42 (dk_at dksX10_readClause_3 22 rfl rfl)
theorem dX10_readClause_95 : decode cX10_readClause 95 = .ok (.bipush 45, 2) := dk_16 45 (dk_at dksX10_readClause_4 0 rfl rfl)
theorem dX10_readClause_97 : decode cX10_readClause 97 = .ok (.invokevirtual 186, 3) := dk_182 0 186 (dk_at dksX10_readClause_4 2 rfl rfl)
theorem dX10_readClause_100 : decode cX10_readClause 100 = .ok (.istore_n 2, 1) := dk_61 (dk_at dksX10_readClause_4 5 rfl rfl)
theorem dX10_readClause_101 : decode cX10_readClause 101 = .ok (.iload_n 2, 1) := dk_28 (dk_at dksX10_readClause_4 6 rfl rfl)
theorem dX10_readClause_102 : decode cX10_readClause 102 = .ok (.ifCond .eq 7, 3) := dk_153 0 7 (dk_at dksX10_readClause_4 7 rfl rfl)
theorem dX10_readClause_105 : decode cX10_readClause 105 = .ok (.aload_n 0, 1) := dk_42 (dk_at dksX10_readClause_4 10 rfl rfl)
theorem dX10_readClause_106 : decode cX10_readClause 106 = .ok (.invokevirtual 193, 3) := dk_182 0 193 (dk_at dksX10_readClause_4 11 rfl rfl)
theorem dX10_readClause_109 : decode cX10_readClause 109 = .ok (.aload_n 0, 1) := dk_42 (dk_at dksX10_readClause_4 14 rfl rfl)
theorem dX10_readClause_110 : decode cX10_readClause 110 = .ok (.iconst 0, 1) := dk_3 (dk_at dksX10_readClause_4 15 rfl rfl)
theorem dX10_readClause_111 : decode cX10_readClause 111 = .ok (.bipush 99, 2) := dk_16 99 (dk_at dksX10_readClause_4 16 rfl rfl)
theorem dX10_readClause_113 : decode cX10_readClause 113 = .ok (.invokevirtual 200, 3) := dk_182 0 200 (dk_at dksX10_readClause_4 18 rfl rfl)
theorem dX10_readClause_116 : decode cX10_readClause 116 = .ok (.istore_n 3, 1) := dk_62 (dk_at dksX10_readClause_4 21 rfl rfl)
theorem dX10_readClause_117 : decode cX10_readClause 117 = .ok (.aload_n 0, 1) := dk_42 (dk_at dksX10_readClause_4 22 rfl rfl)
theorem dX10_readClause_118 : decode cX10_readClause 118 = .ok (.getfield 44, 3) := dk_180 0 44 (dk_at dksX10_readClause_5 0 rfl rfl)
theorem dX10_readClause_121 : decode cX10_readClause 121 = .ok (.bipush 15, 2) := dk_16 15 (dk_at dksX10_readClause_5 3 rfl rfl)
theorem dX10_readClause_123 : decode cX10_readClause 123 = .ok (.iload_n 2, 1) := dk_28 (dk_at dksX10_readClause_5 5 rfl rfl)
theorem dX10_readClause_124 : decode cX10_readClause 124 = .ok (.ifCond .eq 8, 3) := dk_153 0 8 (dk_at dksX10_readClause_5 6 rfl rfl)
theorem dX10_readClause_127 : decode cX10_readClause 127 = .ok (.iload_n 3, 1) := dk_29 (dk_at dksX10_readClause_5 9 rfl rfl)
theorem dX10_readClause_128 : decode cX10_readClause 128 = .ok (.ineg, 1) := dk_116 (dk_at dksX10_readClause_5 10 rfl rfl)
theorem dX10_readClause_129 : decode cX10_readClause 129 = .ok (.goto 4, 3) := dk_167 0 4 (dk_at dksX10_readClause_5 11 rfl rfl)
theorem dX10_readClause_132 : decode cX10_readClause 132 = .ok (.iload_n 3, 1) := dk_29 (dk_at dksX10_readClause_5 14 rfl rfl)
theorem dX10_readClause_133 : decode cX10_readClause 133 = .ok (.iastore, 1) := dk_79 (dk_at dksX10_readClause_5 15 rfl rfl)
theorem dX10_readClause_134 : decode cX10_readClause 134 = .ok (.iload_n 1, 1) := dk_27 (dk_at dksX10_readClause_5 16 rfl rfl)
theorem dX10_readClause_135 : decode cX10_readClause 135 = .ok (.iconst 5, 1) := dk_8 (dk_at dksX10_readClause_5 17 rfl rfl)
theorem dX10_readClause_136 : decode cX10_readClause 136 = .ok (.if_icmp .ne 17, 3) := dk_160 0 17 (dk_at dksX10_readClause_5 18 rfl rfl)
theorem dX10_readClause_139 : decode cX10_readClause 139 = .ok (.aload_n 0, 1) := dk_42 (dk_at dksX10_readClause_5 21 rfl rfl)
theorem dX10_readClause_140 : decode cX10_readClause 140 = .ok (.getfield 44, 3) := dk_180 0 44 (dk_at dksX10_readClause_6 0 rfl rfl)
theorem dX10_readClause_143 : decode cX10_readClause 143 = .ok (.bipush 16, 2) := dk_16 16 (dk_at dksX10_readClause_6 3 rfl rfl)
theorem dX10_readClause_145 : decode cX10_readClause 145 = .ok (.aload_n 0, 1) := dk_42 (dk_at dksX10_readClause_6 5 rfl rfl)
theorem dX10_readClause_146 : decode cX10_readClause 146 = .ok (.iconst 1, 1) := dk_4 (dk_at dksX10_readClause_6 6 rfl rfl)
theorem dX10_readClause_147 : decode cX10_readClause 147 = .ok (.bipush 8, 2) := dk_16 8 (dk_at dksX10_readClause_6 7 rfl rfl)
theorem dX10_readClause_149 : decode cX10_readClause 149 = .ok (.invokevirtual 200, 3) := dk_182 0 200 (dk_at dksX10_readClause_6 9 rfl rfl)
theorem dX10_readClause_152 : decode cX10_readClause 152 = .ok (.iastore, 1) := dk_79 (dk_at dksX10_readClause_6 12 rfl rfl)
theorem dX10_readClause_153 : decode cX10_readClause 153 = .ok (.iload_n 1, 1) := dk_27 (dk_at dksX10_readClause_6 13 rfl rfl)
theorem dX10_readClause_154 : decode cX10_readClause 154 = .ok (.bipush 6, 2) := dk_16 6 (dk_at dksX10_readClause_6 14 rfl rfl)
theorem dX10_readClause_156 : decode cX10_readClause 156 = .ok (.if_icmp .ne 7, 3) := dk_160 0 7 (dk_at dksX10_readClause_6 16 rfl rfl)
theorem dX10_readClause_159 : decode cX10_readClause 159 = .ok (.aload_n 0, 1) := dk_42 (dk_at dksX10_readClause_6 19 rfl rfl)
theorem dX10_readClause_160 : decode cX10_readClause 160 = .ok (.invokevirtual 237, 3) := dk_182 0 237 (dk_at dksX10_readClause_6 20 rfl rfl)
theorem dX10_readClause_163 : decode cX10_readClause 163 = .ok (.iload_n 1, 1) := dk_27 (dk_at dksX10_readClause_6 23 rfl rfl)
theorem dX10_readClause_164 : decode cX10_readClause 164 = .ok (.bipush 7, 2) := dk_16 7 (dk_at dksX10_readClause_7 0 rfl rfl)
theorem dX10_readClause_166 : decode cX10_readClause 166 = .ok (.if_icmp .ge 4, 3) := dk_162 0 4 (dk_at dksX10_readClause_7 2 rfl rfl)
theorem dX10_readClause_169 : decode cX10_readClause 169 = .ok (.return_, 1) := dk_177 (dk_at dksX10_readClause_7 5 rfl rfl)
theorem dX10_readClause_170 : decode cX10_readClause 170 = .ok (.aload_n 0, 1) := dk_42 (dk_at dksX10_readClause_7 6 rfl rfl)
theorem dX10_readClause_171 : decode cX10_readClause 171 = .ok (.iload_n 1, 1) := dk_27 (dk_at dksX10_readClause_7 7 rfl rfl)
theorem dX10_readClause_172 : decode cX10_readClause 172 = .ok (.bipush 8, 2) := dk_16 8 (dk_at dksX10_readClause_7 8 rfl rfl)
theorem dX10_readClause_174 : decode cX10_readClause 174 = .ok (.if_icmp .ne 7, 3) := dk_160 0 7 (dk_at dksX10_readClause_7 10 rfl rfl)
theorem dX10_readClause_177 : decode cX10_readClause 177 = .ok (.iconst 1, 1) := dk_4 (dk_at dksX10_readClause_7 13 rfl rfl)
theorem dX10_readClause_178 : decode cX10_readClause 178 = .ok (.goto 4, 3) := dk_167 0 4 (dk_at dksX10_readClause_7 14 rfl rfl)
theorem dX10_readClause_181 : decode cX10_readClause 181 = .ok (.iconst 0, 1) := dk_3 (dk_at dksX10_readClause_7 17 rfl rfl)
theorem dX10_readClause_182 : decode cX10_readClause 182 = .ok (.putfield 196, 3) := dk_181 0 196 (dk_at dksX10_readClause_7 18 rfl rfl)
theorem dX10_readClause_185 : decode cX10_readClause 185 = .ok (.aload_n 0, 1) := dk_42 (dk_at dksX10_readClause_7 21 rfl rfl)
theorem dX10_readClause_186 : decode cX10_readClause 186 = .ok (.iconst 0, 1) := dk_3 (dk_at dksX10_readClause_7 22 rfl rfl)
theorem dX10_readClause_187 : decode cX10_readClause 187 = .ok (.invokevirtual 213, 3) := dk_182 0 213 (dk_at dksX10_readClause_8 0 rfl rfl)
theorem dX10_readClause_190 : decode cX10_readClause 190 = .ok (.return_, 1) := dk_177 (dk_at dksX10_readClause_8 3 rfl rfl)
abbrev cX10_readNumber : ByteArray := prog_22_method_18_code
def yX10_readNumber : MethodName := ⟨RX10, "readNumber", "(II)I"⟩
def dkwX10_readNumber_3 : List UInt8 := [167, 0, 4, 3, 62, 42, 180, 0, 168, 154, 0, 7, 42, 182, 0, 193, 29, 172]
abbrev dktX10_readNumber_3 : List UInt8 := dkwX10_readNumber_3 ++ []
def dkwX10_readNumber_2 : List UInt8 := [42, 180, 0, 158, 28, 164, 0, 8, 42, 5, 182, 0, 189, 42, 180, 0, 168, 154, 0, 10, 42, 180, 0, 158]
abbrev dktX10_readNumber_2 : List UInt8 := dkwX10_readNumber_2 ++ dktX10_readNumber_3
def dkwX10_readNumber_1 : List UInt8 := [167, 0, 37, 42, 180, 0, 165, 42, 180, 0, 145, 100, 7, 163, 0, 19, 42, 180, 0, 158, 27, 161, 0, 11]
abbrev dktX10_readNumber_1 : List UInt8 := dkwX10_readNumber_1 ++ dktX10_readNumber_2
def dkwX10_readNumber_0 : List UInt8 := [42, 180, 0, 168, 153, 0, 5, 3, 172, 42, 180, 0, 148, 5, 159, 0, 11, 42, 4, 182, 0, 189]
abbrev dktX10_readNumber_0 : List UInt8 := dkwX10_readNumber_0 ++ dktX10_readNumber_1
theorem dksX10_readNumber_0 : cX10_readNumber.data.toList.drop 0 = dktX10_readNumber_0 := by decide +kernel
theorem dksX10_readNumber_1 : cX10_readNumber.data.toList.drop 22 = dktX10_readNumber_1 := dk_seg dksX10_readNumber_0 22 rfl rfl
theorem dksX10_readNumber_2 : cX10_readNumber.data.toList.drop 46 = dktX10_readNumber_2 := dk_seg dksX10_readNumber_1 24 rfl rfl
theorem dksX10_readNumber_3 : cX10_readNumber.data.toList.drop 70 = dktX10_readNumber_3 := dk_seg dksX10_readNumber_2 24 rfl rfl
theorem dX10_readNumber_0 : decode cX10_readNumber 0 = .ok (.aload_n 0, 1) := dk_42 (dk_at dksX10_readNumber_0 0 rfl rfl)
theorem dX10_readNumber_1 : decode cX10_readNumber 1 = .ok (.getfield 168, 3) := dk_180 0 168 (dk_at dksX10_readNumber_0 1 rfl rfl)
theorem dX10_readNumber_4 : decode cX10_readNumber 4 = .ok (.ifCond .eq 5, 3) := dk_153 0 5 (dk_at dksX10_readNumber_0 4 rfl rfl)
theorem dX10_readNumber_7 : decode cX10_readNumber 7 = .ok (.iconst 0, 1) := dk_3 (dk_at dksX10_readNumber_0 7 rfl rfl)
theorem dX10_readNumber_8 : decode cX10_readNumber 8 = .ok (.ireturn, 1) := dk_172 (dk_at dksX10_readNumber_0 8 rfl rfl)
theorem dX10_readNumber_9 : decode cX10_readNumber 9 = .ok (.aload_n 0, 1) := dk_42 (dk_at dksX10_readNumber_0 9 rfl rfl)
theorem dX10_readNumber_10 : decode cX10_readNumber 10 = .ok (.getfield 148, 3) := dk_180 0 148 (dk_at dksX10_readNumber_0 10 rfl rfl)
theorem dX10_readNumber_13 : decode cX10_readNumber 13 = .ok (.iconst 2, 1) := dk_5 (dk_at dksX10_readNumber_0 13 rfl rfl)
theorem dX10_readNumber_14 : decode cX10_readNumber 14 = .ok (.if_icmp .eq 11, 3) := dk_159 0 11 (dk_at dksX10_readNumber_0 14 rfl rfl)
theorem dX10_readNumber_17 : decode cX10_readNumber 17 = .ok (.aload_n 0, 1) := dk_42 (dk_at dksX10_readNumber_0 17 rfl rfl)
theorem dX10_readNumber_18 : decode cX10_readNumber 18 = .ok (.iconst 1, 1) := dk_4 (dk_at dksX10_readNumber_0 18 rfl rfl)
theorem dX10_readNumber_19 : decode cX10_readNumber 19 = .ok (.invokevirtual 189, 3) := dk_182 0 189 (dk_at dksX10_readNumber_0 19 rfl rfl)
theorem dX10_readNumber_22 : decode cX10_readNumber 22 = .ok (.goto 37, 3) := dk_167 0 37 (dk_at dksX10_readNumber_1 0 rfl rfl)
theorem dX10_readNumber_25 : decode cX10_readNumber 25 = .ok (.aload_n 0, 1) := dk_42 (dk_at dksX10_readNumber_1 3 rfl rfl)
theorem dX10_readNumber_26 : decode cX10_readNumber 26 = .ok (.getfield 165, 3) := dk_180 0 165 (dk_at dksX10_readNumber_1 4 rfl rfl)
theorem dX10_readNumber_29 : decode cX10_readNumber 29 = .ok (.aload_n 0, 1) := dk_42 (dk_at dksX10_readNumber_1 7 rfl rfl)
theorem dX10_readNumber_30 : decode cX10_readNumber 30 = .ok (.getfield 145, 3) := dk_180 0 145 (dk_at dksX10_readNumber_1 8 rfl rfl)
theorem dX10_readNumber_33 : decode cX10_readNumber 33 = .ok (.isub, 1) := dk_100 (dk_at dksX10_readNumber_1 11 rfl rfl)
theorem dX10_readNumber_34 : decode cX10_readNumber 34 = .ok (.iconst 4, 1) := dk_7 (dk_at dksX10_readNumber_1 12 rfl rfl)
theorem dX10_readNumber_35 : decode cX10_readNumber 35 = .ok (.if_icmp .gt 19, 3) := dk_163 0 19 (dk_at dksX10_readNumber_1 13 rfl rfl)
theorem dX10_readNumber_38 : decode cX10_readNumber 38 = .ok (.aload_n 0, 1) := dk_42 (dk_at dksX10_readNumber_1 16 rfl rfl)
theorem dX10_readNumber_39 : decode cX10_readNumber 39 = .ok (.getfield 158, 3) := dk_180 0 158 (dk_at dksX10_readNumber_1 17 rfl rfl)
theorem dX10_readNumber_42 : decode cX10_readNumber 42 = .ok (.iload_n 1, 1) := dk_27 (dk_at dksX10_readNumber_1 20 rfl rfl)
theorem dX10_readNumber_43 : decode cX10_readNumber 43 = .ok (.if_icmp .lt 11, 3) := dk_161 0 11 (dk_at dksX10_readNumber_1 21 rfl rfl)
theorem dX10_readNumber_46 : decode cX10_readNumber 46 = .ok (.aload_n 0, 1) := dk_42 (dk_at dksX10_readNumber_2 0 rfl rfl)
theorem dX10_readNumber_47 : decode cX10_readNumber 47 = .ok (.getfield 158, 3) := dk_180 0 158 (dk_at dksX10_readNumber_2 1 rfl rfl)
theorem dX10_readNumber_50 : decode cX10_readNumber 50 = .ok (.iload_n 2, 1) := dk_28 (dk_at dksX10_readNumber_2 4 rfl rfl)
theorem dX10_readNumber_51 : decode cX10_readNumber 51 = .ok (.if_icmp .le 8, 3) := dk_164 0 8 (dk_at dksX10_readNumber_2 5 rfl rfl)
theorem dX10_readNumber_54 : decode cX10_readNumber 54 = .ok (.aload_n 0, 1) := dk_42 (dk_at dksX10_readNumber_2 8 rfl rfl)
theorem dX10_readNumber_55 : decode cX10_readNumber 55 = .ok (.iconst 2, 1) := dk_5 (dk_at dksX10_readNumber_2 9 rfl rfl)
theorem dX10_readNumber_56 : decode cX10_readNumber 56 = .ok (.invokevirtual 189, 3) := dk_182 0 189 (dk_at dksX10_readNumber_2 10 rfl rfl)
theorem dX10_readNumber_59 : decode cX10_readNumber 59 = .ok (.aload_n 0, 1) := dk_42 (dk_at dksX10_readNumber_2 13 rfl rfl)
theorem dX10_readNumber_60 : decode cX10_readNumber 60 = .ok (.getfield 168, 3) := dk_180 0 168 (dk_at dksX10_readNumber_2 14 rfl rfl)
theorem dX10_readNumber_63 : decode cX10_readNumber 63 = .ok (.ifCond .ne 10, 3) := dk_154 0 10 (dk_at dksX10_readNumber_2 17 rfl rfl)
theorem dX10_readNumber_66 : decode cX10_readNumber 66 = .ok (.aload_n 0, 1) := dk_42 (dk_at dksX10_readNumber_2 20 rfl rfl)
theorem dX10_readNumber_67 : decode cX10_readNumber 67 = .ok (.getfield 158, 3) := dk_180 0 158 (dk_at dksX10_readNumber_2 21 rfl rfl)
theorem dX10_readNumber_70 : decode cX10_readNumber 70 = .ok (.goto 4, 3) := dk_167 0 4 (dk_at dksX10_readNumber_3 0 rfl rfl)
theorem dX10_readNumber_73 : decode cX10_readNumber 73 = .ok (.iconst 0, 1) := dk_3 (dk_at dksX10_readNumber_3 3 rfl rfl)
theorem dX10_readNumber_74 : decode cX10_readNumber 74 = .ok (.istore_n 3, 1) := dk_62 (dk_at dksX10_readNumber_3 4 rfl rfl)
theorem dX10_readNumber_75 : decode cX10_readNumber 75 = .ok (.aload_n 0, 1) := dk_42 (dk_at dksX10_readNumber_3 5 rfl rfl)
theorem dX10_readNumber_76 : decode cX10_readNumber 76 = .ok (.getfield 168, 3) := dk_180 0 168 (dk_at dksX10_readNumber_3 6 rfl rfl)
theorem dX10_readNumber_79 : decode cX10_readNumber 79 = .ok (.ifCond .ne 7, 3) := dk_154 0 7 (dk_at dksX10_readNumber_3 9 rfl rfl)
theorem dX10_readNumber_82 : decode cX10_readNumber 82 = .ok (.aload_n 0, 1) := dk_42 (dk_at dksX10_readNumber_3 12 rfl rfl)
theorem dX10_readNumber_83 : decode cX10_readNumber 83 = .ok (.invokevirtual 193, 3) := dk_182 0 193 (dk_at dksX10_readNumber_3 13 rfl rfl)
theorem dX10_readNumber_86 : decode cX10_readNumber 86 = .ok (.iload_n 3, 1) := dk_29 (dk_at dksX10_readNumber_3 16 rfl rfl)
theorem dX10_readNumber_87 : decode cX10_readNumber 87 = .ok (.ireturn, 1) := dk_172 (dk_at dksX10_readNumber_3 17 rfl rfl)
abbrev cX10_isMarked : ByteArray := prog_22_method_16_code
def yX10_isMarked : MethodName := ⟨RX10, "isMarked", "(I)Z"⟩
def dkwX10_isMarked_1 : List UInt8 := [27, 160, 0, 7, 4, 167, 0, 4, 3, 172]
abbrev dktX10_isMarked_1 : List UInt8 := dkwX10_isMarked_1 ++ []
def dkwX10_isMarked_0 : List UInt8 := [42, 180, 0, 168, 154, 0, 28, 42, 180, 0, 148, 6, 160, 0, 20, 42, 180, 0, 62, 42, 180, 0, 145, 46]
abbrev dktX10_isMarked_0 : List UInt8 := dkwX10_isMarked_0 ++ dktX10_isMarked_1
theorem dksX10_isMarked_0 : cX10_isMarked.data.toList.drop 0 = dktX10_isMarked_0 := by decide +kernel
theorem dksX10_isMarked_1 : cX10_isMarked.data.toList.drop 24 = dktX10_isMarked_1 := dk_seg dksX10_isMarked_0 24 rfl rfl
theorem dX10_isMarked_0 : decode cX10_isMarked 0 = .ok (.aload_n 0, 1) := dk_42 (dk_at dksX10_isMarked_0 0 rfl rfl)
theorem dX10_isMarked_1 : decode cX10_isMarked 1 = .ok (.getfield 168, 3) := dk_180 0 168 (dk_at dksX10_isMarked_0 1 rfl rfl)
theorem dX10_isMarked_4 : decode cX10_isMarked 4 = .ok (.ifCond .ne 28, 3) := dk_154 0 28 (dk_at dksX10_isMarked_0 4 rfl rfl)
theorem dX10_isMarked_7 : decode cX10_isMarked 7 = .ok (.aload_n 0, 1) := dk_42 (dk_at dksX10_isMarked_0 7 rfl rfl)
theorem dX10_isMarked_8 : decode cX10_isMarked 8 = .ok (.getfield 148, 3) := dk_180 0 148 (dk_at dksX10_isMarked_0 8 rfl rfl)
theorem dX10_isMarked_11 : decode cX10_isMarked 11 = .ok (.iconst 3, 1) := dk_6 (dk_at dksX10_isMarked_0 11 rfl rfl)
theorem dX10_isMarked_12 : decode cX10_isMarked 12 = .ok (.if_icmp .ne 20, 3) := dk_160 0 20 (dk_at dksX10_isMarked_0 12 rfl rfl)
theorem dX10_isMarked_15 : decode cX10_isMarked 15 = .ok (.aload_n 0, 1) := dk_42 (dk_at dksX10_isMarked_0 15 rfl rfl)
theorem dX10_isMarked_16 : decode cX10_isMarked 16 = .ok (.getfield 62, 3) := dk_180 0 62 (dk_at dksX10_isMarked_0 16 rfl rfl)
theorem dX10_isMarked_19 : decode cX10_isMarked 19 = .ok (.aload_n 0, 1) := dk_42 (dk_at dksX10_isMarked_0 19 rfl rfl)
theorem dX10_isMarked_20 : decode cX10_isMarked 20 = .ok (.getfield 145, 3) := dk_180 0 145 (dk_at dksX10_isMarked_0 20 rfl rfl)
theorem dX10_isMarked_23 : decode cX10_isMarked 23 = .ok (.iaload, 1) := dk_46 (dk_at dksX10_isMarked_0 23 rfl rfl)
theorem dX10_isMarked_24 : decode cX10_isMarked 24 = .ok (.iload_n 1, 1) := dk_27 (dk_at dksX10_isMarked_1 0 rfl rfl)
theorem dX10_isMarked_25 : decode cX10_isMarked 25 = .ok (.if_icmp .ne 7, 3) := dk_160 0 7 (dk_at dksX10_isMarked_1 1 rfl rfl)
theorem dX10_isMarked_28 : decode cX10_isMarked 28 = .ok (.iconst 1, 1) := dk_4 (dk_at dksX10_isMarked_1 4 rfl rfl)
theorem dX10_isMarked_29 : decode cX10_isMarked 29 = .ok (.goto 4, 3) := dk_167 0 4 (dk_at dksX10_isMarked_1 5 rfl rfl)
theorem dX10_isMarked_32 : decode cX10_isMarked 32 = .ok (.iconst 0, 1) := dk_3 (dk_at dksX10_isMarked_1 8 rfl rfl)
theorem dX10_isMarked_33 : decode cX10_isMarked 33 = .ok (.ireturn, 1) := dk_172 (dk_at dksX10_isMarked_1 9 rfl rfl)
abbrev cX10_readWord : ByteArray := prog_22_method_26_code
def yX10_readWord : MethodName := ⟨RX10, "readWord", "()V"⟩
def dkwX10_readWord_4 : List UInt8 := [159, 255, 169, 177]
abbrev dktX10_readWord_4 : List UInt8 := dkwX10_readWord_4 ++ []
def dkwX10_readWord_3 : List UInt8 := [42, 180, 0, 44, 16, 17, 92, 46, 4, 96, 79, 42, 180, 0, 168, 154, 0, 11, 42, 180, 0, 148, 5]
abbrev dktX10_readWord_3 : List UInt8 := dkwX10_readWord_3 ++ dktX10_readWord_4
def dkwX10_readWord_2 : List UInt8 := [60, 42, 180, 0, 168, 154, 0, 30, 42, 180, 0, 48, 16, 16, 42, 180, 0, 44, 16, 17, 46, 96, 27, 79]
abbrev dktX10_readWord_2 : List UInt8 := dkwX10_readWord_2 ++ dktX10_readWord_3
def dkwX10_readWord_1 : List UInt8 := [180, 0, 44, 16, 17, 46, 16, 16, 160, 0, 8, 42, 5, 182, 0, 189, 42, 3, 17, 0, 255, 182, 0, 200]
abbrev dktX10_readWord_1 : List UInt8 := dkwX10_readWord_1 ++ dktX10_readWord_2
def dkwX10_readWord_0 : List UInt8 := [42, 180, 0, 44, 16, 17, 3, 79, 42, 180, 0, 168, 154, 0, 28, 42, 180, 0, 148, 5, 160, 0, 20, 42]
abbrev dktX10_readWord_0 : List UInt8 := dkwX10_readWord_0 ++ dktX10_readWord_1
theorem dksX10_readWord_0 : cX10_readWord.data.toList.drop 0 = dktX10_readWord_0 := by decide +kernel
theorem dksX10_readWord_1 : cX10_readWord.data.toList.drop 24 = dktX10_readWord_1 := dk_seg dksX10_readWord_0 24 rfl rfl
theorem dksX10_readWord_2 : cX10_readWord.data.toList.drop 48 = dktX10_readWord_2 := dk_seg dksX10_readWord_1 24 rfl rfl
theorem dksX10_readWord_3 : cX10_readWord.data.toList.drop 72 = dktX10_readWord_3 := dk_seg dksX10_readWord_2 24 rfl rfl
theorem dksX10_readWord_4 : cX10_readWord.data.toList.drop 95 = dktX10_readWord_4 := dk_seg dksX10_readWord_3 23 rfl rfl
theorem dX10_readWord_0 : decode cX10_readWord 0 = .ok (.aload_n 0, 1) := dk_42 (dk_at dksX10_readWord_0 0 rfl rfl)
theorem dX10_readWord_1 : decode cX10_readWord 1 = .ok (.getfield 44, 3) := dk_180 0 44 (dk_at dksX10_readWord_0 1 rfl rfl)
theorem dX10_readWord_4 : decode cX10_readWord 4 = .ok (.bipush 17, 2) := dk_16 17 (dk_at dksX10_readWord_0 4 rfl rfl)
theorem dX10_readWord_6 : decode cX10_readWord 6 = .ok (.iconst 0, 1) := dk_3 (dk_at dksX10_readWord_0 6 rfl rfl)
theorem dX10_readWord_7 : decode cX10_readWord 7 = .ok (.iastore, 1) := dk_79 (dk_at dksX10_readWord_0 7 rfl rfl)
theorem dX10_readWord_8 : decode cX10_readWord 8 = .ok (.aload_n 0, 1) := dk_42 (dk_at dksX10_readWord_0 8 rfl rfl)
theorem dX10_readWord_9 : decode cX10_readWord 9 = .ok (.getfield 168, 3) := dk_180 0 168 (dk_at dksX10_readWord_0 9 rfl rfl)
theorem dX10_readWord_12 : decode cX10_readWord 12 = .ok (.ifCond .ne 28, 3) := dk_154 0 28 (dk_at dksX10_readWord_0 12 rfl rfl)
theorem dX10_readWord_15 : decode cX10_readWord 15 = .ok (.aload_n 0, 1) := dk_42 (dk_at dksX10_readWord_0 15 rfl rfl)
theorem dX10_readWord_16 : decode cX10_readWord 16 = .ok (.getfield 148, 3) := dk_180 0 148 (dk_at dksX10_readWord_0 16 rfl rfl)
theorem dX10_readWord_19 : decode cX10_readWord 19 = .ok (.iconst 2, 1) := dk_5 (dk_at dksX10_readWord_0 19 rfl rfl)
theorem dX10_readWord_20 : decode cX10_readWord 20 = .ok (.if_icmp .ne 20, 3) := dk_160 0 20 (dk_at dksX10_readWord_0 20 rfl rfl)
theorem dX10_readWord_23 : decode cX10_readWord 23 = .ok (.aload_n 0, 1) := dk_42 (dk_at dksX10_readWord_0 23 rfl rfl)
theorem dX10_readWord_24 : decode cX10_readWord 24 = .ok (.getfield 44, 3) := dk_180 0 44 (dk_at dksX10_readWord_1 0 rfl rfl)
theorem dX10_readWord_27 : decode cX10_readWord 27 = .ok (.bipush 17, 2) := dk_16 17 (dk_at dksX10_readWord_1 3 rfl rfl)
theorem dX10_readWord_29 : decode cX10_readWord 29 = .ok (.iaload, 1) := dk_46 (dk_at dksX10_readWord_1 5 rfl rfl)
theorem dX10_readWord_30 : decode cX10_readWord 30 = .ok (.bipush 16, 2) := dk_16 16 (dk_at dksX10_readWord_1 6 rfl rfl)
theorem dX10_readWord_32 : decode cX10_readWord 32 = .ok (.if_icmp .ne 8, 3) := dk_160 0 8 (dk_at dksX10_readWord_1 8 rfl rfl)
theorem dX10_readWord_35 : decode cX10_readWord 35 = .ok (.aload_n 0, 1) := dk_42 (dk_at dksX10_readWord_1 11 rfl rfl)
theorem dX10_readWord_36 : decode cX10_readWord 36 = .ok (.iconst 2, 1) := dk_5 (dk_at dksX10_readWord_1 12 rfl rfl)
theorem dX10_readWord_37 : decode cX10_readWord 37 = .ok (.invokevirtual 189, 3) := dk_182 0 189 (dk_at dksX10_readWord_1 13 rfl rfl)
theorem dX10_readWord_40 : decode cX10_readWord 40 = .ok (.aload_n 0, 1) := dk_42 (dk_at dksX10_readWord_1 16 rfl rfl)
theorem dX10_readWord_41 : decode cX10_readWord 41 = .ok (.iconst 0, 1) := dk_3 (dk_at dksX10_readWord_1 17 rfl rfl)
theorem dX10_readWord_42 : decode cX10_readWord 42 = .ok (.sipush 255, 3) := dk_17 0 255 (dk_at dksX10_readWord_1 18 rfl rfl)
theorem dX10_readWord_45 : decode cX10_readWord 45 = .ok (.invokevirtual 200, 3) := dk_182 0 200 (dk_at dksX10_readWord_1 21 rfl rfl)
theorem dX10_readWord_48 : decode cX10_readWord 48 = .ok (.istore_n 1, 1) := dk_60 (dk_at dksX10_readWord_2 0 rfl rfl)
theorem dX10_readWord_49 : decode cX10_readWord 49 = .ok (.aload_n 0, 1) := dk_42 (dk_at dksX10_readWord_2 1 rfl rfl)
theorem dX10_readWord_50 : decode cX10_readWord 50 = .ok (.getfield 168, 3) := dk_180 0 168 (dk_at dksX10_readWord_2 2 rfl rfl)
theorem dX10_readWord_53 : decode cX10_readWord 53 = .ok (.ifCond .ne 30, 3) := dk_154 0 30 (dk_at dksX10_readWord_2 5 rfl rfl)
theorem dX10_readWord_56 : decode cX10_readWord 56 = .ok (.aload_n 0, 1) := dk_42 (dk_at dksX10_readWord_2 8 rfl rfl)
theorem dX10_readWord_57 : decode cX10_readWord 57 = .ok (.getfield 48, 3) := dk_180 0 48 (dk_at dksX10_readWord_2 9 rfl rfl)
theorem dX10_readWord_60 : decode cX10_readWord 60 = .ok (.bipush 16, 2) := dk_16 16 (dk_at dksX10_readWord_2 12 rfl rfl)
theorem dX10_readWord_62 : decode cX10_readWord 62 = .ok (.aload_n 0, 1) := dk_42 (dk_at dksX10_readWord_2 14 rfl rfl)
theorem dX10_readWord_63 : decode cX10_readWord 63 = .ok (.getfield 44, 3) := dk_180 0 44 (dk_at dksX10_readWord_2 15 rfl rfl)
theorem dX10_readWord_66 : decode cX10_readWord 66 = .ok (.bipush 17, 2) := dk_16 17 (dk_at dksX10_readWord_2 18 rfl rfl)
theorem dX10_readWord_68 : decode cX10_readWord 68 = .ok (.iaload, 1) := dk_46 (dk_at dksX10_readWord_2 20 rfl rfl)
theorem dX10_readWord_69 : decode cX10_readWord 69 = .ok (.iadd, 1) := dk_96 (dk_at dksX10_readWord_2 21 rfl rfl)
theorem dX10_readWord_70 : decode cX10_readWord 70 = .ok (.iload_n 1, 1) := dk_27 (dk_at dksX10_readWord_2 22 rfl rfl)
theorem dX10_readWord_71 : decode cX10_readWord 71 = .ok (.iastore, 1) := dk_79 (dk_at dksX10_readWord_2 23 rfl rfl)
theorem dX10_readWord_72 : decode cX10_readWord 72 = .ok (.aload_n 0, 1) := dk_42 (dk_at dksX10_readWord_3 0 rfl rfl)
theorem dX10_readWord_73 : decode cX10_readWord 73 = .ok (.getfield 44, 3) := dk_180 0 44 (dk_at dksX10_readWord_3 1 rfl rfl)
theorem dX10_readWord_76 : decode cX10_readWord 76 = .ok (.bipush 17, 2) := dk_16 17 (dk_at dksX10_readWord_3 4 rfl rfl)
theorem dX10_readWord_78 : decode cX10_readWord 78 = .ok (.dup2, 1) := dk_92 (dk_at dksX10_readWord_3 6 rfl rfl)
theorem dX10_readWord_79 : decode cX10_readWord 79 = .ok (.iaload, 1) := dk_46 (dk_at dksX10_readWord_3 7 rfl rfl)
theorem dX10_readWord_80 : decode cX10_readWord 80 = .ok (.iconst 1, 1) := dk_4 (dk_at dksX10_readWord_3 8 rfl rfl)
theorem dX10_readWord_81 : decode cX10_readWord 81 = .ok (.iadd, 1) := dk_96 (dk_at dksX10_readWord_3 9 rfl rfl)
theorem dX10_readWord_82 : decode cX10_readWord 82 = .ok (.iastore, 1) := dk_79 (dk_at dksX10_readWord_3 10 rfl rfl)
theorem dX10_readWord_83 : decode cX10_readWord 83 = .ok (.aload_n 0, 1) := dk_42 (dk_at dksX10_readWord_3 11 rfl rfl)
theorem dX10_readWord_84 : decode cX10_readWord 84 = .ok (.getfield 168, 3) := dk_180 0 168 (dk_at dksX10_readWord_3 12 rfl rfl)
theorem dX10_readWord_87 : decode cX10_readWord 87 = .ok (.ifCond .ne 11, 3) := dk_154 0 11 (dk_at dksX10_readWord_3 15 rfl rfl)
theorem dX10_readWord_90 : decode cX10_readWord 90 = .ok (.aload_n 0, 1) := dk_42 (dk_at dksX10_readWord_3 18 rfl rfl)
theorem dX10_readWord_91 : decode cX10_readWord 91 = .ok (.getfield 148, 3) := dk_180 0 148 (dk_at dksX10_readWord_3 19 rfl rfl)
theorem dX10_readWord_94 : decode cX10_readWord 94 = .ok (.iconst 2, 1) := dk_5 (dk_at dksX10_readWord_3 22 rfl rfl)
theorem dX10_readWord_95 : decode cX10_readWord 95 = .ok (.if_icmp .eq (-87), 3) := dk_159 255 169 (dk_at dksX10_readWord_4 0 rfl rfl)
theorem dX10_readWord_98 : decode cX10_readWord 98 = .ok (.return_, 1) := dk_177 (dk_at dksX10_readWord_4 3 rfl rfl)
abbrev cX10_readExpression : ByteArray := prog_22_method_25_code
def yX10_readExpression : MethodName := ⟨RX10, "readExpression", "(I)V"⟩
def dkwX10_readExpression_4 : List UInt8 := [177]
abbrev dktX10_readExpression_4 : List UInt8 := dkwX10_readExpression_4 ++ []
def dkwX10_readExpression_3 : List UInt8 := [182, 0, 182, 153, 0, 21, 42, 182, 0, 193, 42, 27, 182, 0, 232, 42, 16, 229, 182, 0, 203, 167, 255, 232]
abbrev dktX10_readExpression_3 : List UInt8 := dkwX10_readExpression_3 ++ dktX10_readExpression_4
def dkwX10_readExpression_2 : List UInt8 := [167, 0, 14, 27, 16, 6, 160, 0, 8, 42, 5, 182, 0, 189, 42, 27, 182, 0, 232, 42, 18, 235]
abbrev dktX10_readExpression_2 : List UInt8 := dkwX10_readExpression_2 ++ dktX10_readExpression_3
def dkwX10_readExpression_1 : List UInt8 := [42, 16, 40, 182, 0, 186, 153, 0, 7, 4, 167, 0, 4, 3, 61, 28, 154, 0, 11, 42, 4, 182, 0, 189]
abbrev dktX10_readExpression_1 : List UInt8 := dkwX10_readExpression_1 ++ dktX10_readExpression_2
def dkwX10_readExpression_0 : List UInt8 := [42, 180, 0, 168, 153, 0, 4, 177, 42, 180, 0, 148, 5, 159, 0, 20, 42, 180, 0, 148, 4, 159, 0, 12]
abbrev dktX10_readExpression_0 : List UInt8 := dkwX10_readExpression_0 ++ dktX10_readExpression_1
theorem dksX10_readExpression_0 : cX10_readExpression.data.toList.drop 0 = dktX10_readExpression_0 := by decide +kernel
theorem dksX10_readExpression_1 : cX10_readExpression.data.toList.drop 24 = dktX10_readExpression_1 := dk_seg dksX10_readExpression_0 24 rfl rfl
theorem dksX10_readExpression_2 : cX10_readExpression.data.toList.drop 48 = dktX10_readExpression_2 := dk_seg dksX10_readExpression_1 24 rfl rfl
theorem dksX10_readExpression_3 : cX10_readExpression.data.toList.drop 70 = dktX10_readExpression_3 := dk_seg dksX10_readExpression_2 22 rfl rfl
theorem dksX10_readExpression_4 : cX10_readExpression.data.toList.drop 94 = dktX10_readExpression_4 := dk_seg dksX10_readExpression_3 24 rfl rfl
theorem dX10_readExpression_0 : decode cX10_readExpression 0 = .ok (.aload_n 0, 1) := dk_42 (dk_at dksX10_readExpression_0 0 rfl rfl)
theorem dX10_readExpression_1 : decode cX10_readExpression 1 = .ok (.getfield 168, 3) := dk_180 0 168 (dk_at dksX10_readExpression_0 1 rfl rfl)
theorem dX10_readExpression_4 : decode cX10_readExpression 4 = .ok (.ifCond .eq 4, 3) := dk_153 0 4 (dk_at dksX10_readExpression_0 4 rfl rfl)
theorem dX10_readExpression_7 : decode cX10_readExpression 7 = .ok (.return_, 1) := dk_177 (dk_at dksX10_readExpression_0 7 rfl rfl)
theorem dX10_readExpression_8 : decode cX10_readExpression 8 = .ok (.aload_n 0, 1) := dk_42 (dk_at dksX10_readExpression_0 8 rfl rfl)
theorem dX10_readExpression_9 : decode cX10_readExpression 9 = .ok (.getfield 148, 3) := dk_180 0 148 (dk_at dksX10_readExpression_0 9 rfl rfl)
theorem dX10_readExpression_12 : decode cX10_readExpression 12 = .ok (.iconst 2, 1) := dk_5 (dk_at dksX10_readExpression_0 12 rfl rfl)
theorem dX10_readExpression_13 : decode cX10_readExpression 13 = .ok (.if_icmp .eq 20, 3) := dk_159 0 20 (dk_at dksX10_readExpression_0 13 rfl rfl)
theorem dX10_readExpression_16 : decode cX10_readExpression 16 = .ok (.aload_n 0, 1) := dk_42 (dk_at dksX10_readExpression_0 16 rfl rfl)
theorem dX10_readExpression_17 : decode cX10_readExpression 17 = .ok (.getfield 148, 3) := dk_180 0 148 (dk_at dksX10_readExpression_0 17 rfl rfl)
theorem dX10_readExpression_20 : decode cX10_readExpression 20 = .ok (.iconst 1, 1) := dk_4 (dk_at dksX10_readExpression_0 20 rfl rfl)
theorem dX10_readExpression_21 : decode cX10_readExpression 21 = .ok (.if_icmp .eq 12, 3) := dk_159 0 12 (dk_at dksX10_readExpression_0 21 rfl rfl)
theorem dX10_readExpression_24 : decode cX10_readExpression 24 = .ok (.aload_n 0, 1) := dk_42 (dk_at dksX10_readExpression_1 0 rfl rfl)
theorem dX10_readExpression_25 : decode cX10_readExpression 25 = .ok (.bipush 40, 2) := dk_16 40 (dk_at dksX10_readExpression_1 1 rfl rfl)
theorem dX10_readExpression_27 : decode cX10_readExpression 27 = .ok (.invokevirtual 186, 3) := dk_182 0 186 (dk_at dksX10_readExpression_1 3 rfl rfl)
theorem dX10_readExpression_30 : decode cX10_readExpression 30 = .ok (.ifCond .eq 7, 3) := dk_153 0 7 (dk_at dksX10_readExpression_1 6 rfl rfl)
theorem dX10_readExpression_33 : decode cX10_readExpression 33 = .ok (.iconst 1, 1) := dk_4 (dk_at dksX10_readExpression_1 9 rfl rfl)
theorem dX10_readExpression_34 : decode cX10_readExpression 34 = .ok (.goto 4, 3) := dk_167 0 4 (dk_at dksX10_readExpression_1 10 rfl rfl)
theorem dX10_readExpression_37 : decode cX10_readExpression 37 = .ok (.iconst 0, 1) := dk_3 (dk_at dksX10_readExpression_1 13 rfl rfl)
theorem dX10_readExpression_38 : decode cX10_readExpression 38 = .ok (.istore_n 2, 1) := dk_61 (dk_at dksX10_readExpression_1 14 rfl rfl)
theorem dX10_readExpression_39 : decode cX10_readExpression 39 = .ok (.iload_n 2, 1) := dk_28 (dk_at dksX10_readExpression_1 15 rfl rfl)
theorem dX10_readExpression_40 : decode cX10_readExpression 40 = .ok (.ifCond .ne 11, 3) := dk_154 0 11 (dk_at dksX10_readExpression_1 16 rfl rfl)
theorem dX10_readExpression_43 : decode cX10_readExpression 43 = .ok (.aload_n 0, 1) := dk_42 (dk_at dksX10_readExpression_1 19 rfl rfl)
theorem dX10_readExpression_44 : decode cX10_readExpression 44 = .ok (.iconst 1, 1) := dk_4 (dk_at dksX10_readExpression_1 20 rfl rfl)
theorem dX10_readExpression_45 : decode cX10_readExpression 45 = .ok (.invokevirtual 189, 3) := dk_182 0 189 (dk_at dksX10_readExpression_1 21 rfl rfl)
theorem dX10_readExpression_48 : decode cX10_readExpression 48 = .ok (.goto 14, 3) := dk_167 0 14 (dk_at dksX10_readExpression_2 0 rfl rfl)
theorem dX10_readExpression_51 : decode cX10_readExpression 51 = .ok (.iload_n 1, 1) := dk_27 (dk_at dksX10_readExpression_2 3 rfl rfl)
theorem dX10_readExpression_52 : decode cX10_readExpression 52 = .ok (.bipush 6, 2) := dk_16 6 (dk_at dksX10_readExpression_2 4 rfl rfl)
theorem dX10_readExpression_54 : decode cX10_readExpression 54 = .ok (.if_icmp .ne 8, 3) := dk_160 0 8 (dk_at dksX10_readExpression_2 6 rfl rfl)
theorem dX10_readExpression_57 : decode cX10_readExpression 57 = .ok (.aload_n 0, 1) := dk_42 (dk_at dksX10_readExpression_2 9 rfl rfl)
theorem dX10_readExpression_58 : decode cX10_readExpression 58 = .ok (.iconst 2, 1) := dk_5 (dk_at dksX10_readExpression_2 10 rfl rfl)
theorem dX10_readExpression_59 : decode cX10_readExpression 59 = .ok (.invokevirtual 189, 3) := dk_182 0 189 (dk_at dksX10_readExpression_2 11 rfl rfl)
theorem dX10_readExpression_62 : decode cX10_readExpression 62 = .ok (.aload_n 0, 1) := dk_42 (dk_at dksX10_readExpression_2 14 rfl rfl)
theorem dX10_readExpression_63 : decode cX10_readExpression 63 = .ok (.iload_n 1, 1) := dk_27 (dk_at dksX10_readExpression_2 15 rfl rfl)
theorem dX10_readExpression_64 : decode cX10_readExpression 64 = .ok (.invokevirtual 232, 3) := dk_182 0 232 (dk_at dksX10_readExpression_2 16 rfl rfl)
theorem dX10_readExpression_67 : decode cX10_readExpression 67 = .ok (.aload_n 0, 1) := dk_42 (dk_at dksX10_readExpression_2 19 rfl rfl)
theorem dX10_readExpression_68 : decode cX10_readExpression 68 = .ok (.ldc 235, 2) := dk_18 235 (dk_at dksX10_readExpression_2 20 rfl rfl)
theorem dX10_readExpression_70 : decode cX10_readExpression 70 = .ok (.invokevirtual 182, 3) := dk_182 0 182 (dk_at dksX10_readExpression_3 0 rfl rfl)
theorem dX10_readExpression_73 : decode cX10_readExpression 73 = .ok (.ifCond .eq 21, 3) := dk_153 0 21 (dk_at dksX10_readExpression_3 3 rfl rfl)
theorem dX10_readExpression_76 : decode cX10_readExpression 76 = .ok (.aload_n 0, 1) := dk_42 (dk_at dksX10_readExpression_3 6 rfl rfl)
theorem dX10_readExpression_77 : decode cX10_readExpression 77 = .ok (.invokevirtual 193, 3) := dk_182 0 193 (dk_at dksX10_readExpression_3 7 rfl rfl)
theorem dX10_readExpression_80 : decode cX10_readExpression 80 = .ok (.aload_n 0, 1) := dk_42 (dk_at dksX10_readExpression_3 10 rfl rfl)
theorem dX10_readExpression_81 : decode cX10_readExpression 81 = .ok (.iload_n 1, 1) := dk_27 (dk_at dksX10_readExpression_3 11 rfl rfl)
theorem dX10_readExpression_82 : decode cX10_readExpression 82 = .ok (.invokevirtual 232, 3) := dk_182 0 232 (dk_at dksX10_readExpression_3 12 rfl rfl)
theorem dX10_readExpression_85 : decode cX10_readExpression 85 = .ok (.aload_n 0, 1) := dk_42 (dk_at dksX10_readExpression_3 15 rfl rfl)
theorem dX10_readExpression_86 : decode cX10_readExpression 86 = .ok (.bipush (-27), 2) := dk_16 229 (dk_at dksX10_readExpression_3 16 rfl rfl)
theorem dX10_readExpression_88 : decode cX10_readExpression 88 = .ok (.invokevirtual 203, 3) := dk_182 0 203 (dk_at dksX10_readExpression_3 18 rfl rfl)
theorem dX10_readExpression_91 : decode cX10_readExpression 91 = .ok (.goto (-24), 3) := dk_167 255 232 (dk_at dksX10_readExpression_3 21 rfl rfl)
theorem dX10_readExpression_94 : decode cX10_readExpression 94 = .ok (.return_, 1) := dk_177 (dk_at dksX10_readExpression_4 0 rfl rfl)
abbrev cX10_readAnd : ByteArray := prog_22_method_24_code
def yX10_readAnd : MethodName := ⟨RX10, "readAnd", "(I)V"⟩
def dkwX10_readAnd_1 : List UInt8 := [16, 230, 182, 0, 203, 167, 255, 232, 177]
abbrev dktX10_readAnd_1 : List UInt8 := dkwX10_readAnd_1 ++ []
def dkwX10_readAnd_0 : List UInt8 := [42, 27, 182, 0, 227, 42, 18, 230, 182, 0, 182, 153, 0, 21, 42, 182, 0, 193, 42, 27, 182, 0, 227, 42]
abbrev dktX10_readAnd_0 : List UInt8 := dkwX10_readAnd_0 ++ dktX10_readAnd_1
theorem dksX10_readAnd_0 : cX10_readAnd.data.toList.drop 0 = dktX10_readAnd_0 := by decide +kernel
theorem dksX10_readAnd_1 : cX10_readAnd.data.toList.drop 24 = dktX10_readAnd_1 := dk_seg dksX10_readAnd_0 24 rfl rfl
theorem dX10_readAnd_0 : decode cX10_readAnd 0 = .ok (.aload_n 0, 1) := dk_42 (dk_at dksX10_readAnd_0 0 rfl rfl)
theorem dX10_readAnd_1 : decode cX10_readAnd 1 = .ok (.iload_n 1, 1) := dk_27 (dk_at dksX10_readAnd_0 1 rfl rfl)
theorem dX10_readAnd_2 : decode cX10_readAnd 2 = .ok (.invokevirtual 227, 3) := dk_182 0 227 (dk_at dksX10_readAnd_0 2 rfl rfl)
theorem dX10_readAnd_5 : decode cX10_readAnd 5 = .ok (.aload_n 0, 1) := dk_42 (dk_at dksX10_readAnd_0 5 rfl rfl)
theorem dX10_readAnd_6 : decode cX10_readAnd 6 = .ok (.ldc 230, 2) := dk_18 230 (dk_at dksX10_readAnd_0 6 rfl rfl)
theorem dX10_readAnd_8 : decode cX10_readAnd 8 = .ok (.invokevirtual 182, 3) := dk_182 0 182 (dk_at dksX10_readAnd_0 8 rfl rfl)
theorem dX10_readAnd_11 : decode cX10_readAnd 11 = .ok (.ifCond .eq 21, 3) := dk_153 0 21 (dk_at dksX10_readAnd_0 11 rfl rfl)
theorem dX10_readAnd_14 : decode cX10_readAnd 14 = .ok (.aload_n 0, 1) := dk_42 (dk_at dksX10_readAnd_0 14 rfl rfl)
theorem dX10_readAnd_15 : decode cX10_readAnd 15 = .ok (.invokevirtual 193, 3) := dk_182 0 193 (dk_at dksX10_readAnd_0 15 rfl rfl)
theorem dX10_readAnd_18 : decode cX10_readAnd 18 = .ok (.aload_n 0, 1) := dk_42 (dk_at dksX10_readAnd_0 18 rfl rfl)
theorem dX10_readAnd_19 : decode cX10_readAnd 19 = .ok (.iload_n 1, 1) := dk_27 (dk_at dksX10_readAnd_0 19 rfl rfl)
theorem dX10_readAnd_20 : decode cX10_readAnd 20 = .ok (.invokevirtual 227, 3) := dk_182 0 227 (dk_at dksX10_readAnd_0 20 rfl rfl)
theorem dX10_readAnd_23 : decode cX10_readAnd 23 = .ok (.aload_n 0, 1) := dk_42 (dk_at dksX10_readAnd_0 23 rfl rfl)
theorem dX10_readAnd_24 : decode cX10_readAnd 24 = .ok (.bipush (-26), 2) := dk_16 230 (dk_at dksX10_readAnd_1 0 rfl rfl)
theorem dX10_readAnd_26 : decode cX10_readAnd 26 = .ok (.invokevirtual 203, 3) := dk_182 0 203 (dk_at dksX10_readAnd_1 2 rfl rfl)
theorem dX10_readAnd_29 : decode cX10_readAnd 29 = .ok (.goto (-24), 3) := dk_167 255 232 (dk_at dksX10_readAnd_1 5 rfl rfl)
theorem dX10_readAnd_32 : decode cX10_readAnd 32 = .ok (.return_, 1) := dk_177 (dk_at dksX10_readAnd_1 8 rfl rfl)
abbrev cX10_readNot : ByteArray := prog_22_method_23_code
def yX10_readNot : MethodName := ⟨RX10, "readNot", "(I)V"⟩
def dkwX10_readNot_4 : List UInt8 := [182, 0, 203, 3, 62, 29, 28, 162, 0, 15, 42, 16, 228, 182, 0, 203, 132, 3, 1, 167, 255, 242, 177]
abbrev dktX10_readNot_4 : List UInt8 := dkwX10_readNot_4 ++ []
def dkwX10_readNot_3 : List UInt8 := [153, 0, 8, 16, 232, 167, 0, 5, 16, 231, 62, 42, 182, 0, 193, 42, 27, 182, 0, 224, 42, 29]
abbrev dktX10_readNot_3 : List UInt8 := dkwX10_readNot_3 ++ dktX10_readNot_4
def dkwX10_readNot_2 : List UInt8 := [16, 60, 182, 0, 186, 154, 0, 12, 42, 16, 61, 182, 0, 186, 153, 0, 34, 42, 16, 60, 182, 0, 186]
abbrev dktX10_readNot_2 : List UInt8 := dkwX10_readNot_2 ++ dktX10_readNot_3
def dkwX10_readNot_1 : List UInt8 := [132, 2, 1, 42, 180, 0, 168, 154, 255, 229, 42, 182, 0, 193, 167, 255, 222, 42, 27, 182, 0, 224, 42]
abbrev dktX10_readNot_1 : List UInt8 := dkwX10_readNot_1 ++ dktX10_readNot_2
def dkwX10_readNot_0 : List UInt8 := [3, 61, 42, 18, 222, 182, 0, 182, 153, 0, 31, 28, 16, 6, 160, 0, 8, 42, 5, 182, 0, 189]
abbrev dktX10_readNot_0 : List UInt8 := dkwX10_readNot_0 ++ dktX10_readNot_1
theorem dksX10_readNot_0 : cX10_readNot.data.toList.drop 0 = dktX10_readNot_0 := by decide +kernel
theorem dksX10_readNot_1 : cX10_readNot.data.toList.drop 22 = dktX10_readNot_1 := dk_seg dksX10_readNot_0 22 rfl rfl
theorem dksX10_readNot_2 : cX10_readNot.data.toList.drop 45 = dktX10_readNot_2 := dk_seg dksX10_readNot_1 23 rfl rfl
theorem dksX10_readNot_3 : cX10_readNot.data.toList.drop 68 = dktX10_readNot_3 := dk_seg dksX10_readNot_2 23 rfl rfl
theorem dksX10_readNot_4 : cX10_readNot.data.toList.drop 90 = dktX10_readNot_4 := dk_seg dksX10_readNot_3 22 rfl rfl
theorem dX10_readNot_0 : decode cX10_readNot 0 = .ok (.iconst 0, 1) := dk_3 (dk_at dksX10_readNot_0 0 rfl rfl)
theorem dX10_readNot_1 : decode cX10_readNot 1 = .ok (.istore_n 2, 1) := dk_61 (dk_at dksX10_readNot_0 1 rfl rfl)
theorem dX10_readNot_2 : decode cX10_readNot 2 = .ok (.aload_n 0, 1) := dk_42 (dk_at dksX10_readNot_0 2 rfl rfl)
theorem dX10_readNot_3 : decode cX10_readNot 3 = .ok (.ldc 222, 2) := dk_18 222 (dk_at dksX10_readNot_0 3 rfl rfl)
theorem dX10_readNot_5 : decode cX10_readNot 5 = .ok (.invokevirtual 182, 3) := dk_182 0 182 (dk_at dksX10_readNot_0 5 rfl rfl)
theorem dX10_readNot_8 : decode cX10_readNot 8 = .ok (.ifCond .eq 31, 3) := dk_153 0 31 (dk_at dksX10_readNot_0 8 rfl rfl)
theorem dX10_readNot_11 : decode cX10_readNot 11 = .ok (.iload_n 2, 1) := dk_28 (dk_at dksX10_readNot_0 11 rfl rfl)
theorem dX10_readNot_12 : decode cX10_readNot 12 = .ok (.bipush 6, 2) := dk_16 6 (dk_at dksX10_readNot_0 12 rfl rfl)
theorem dX10_readNot_14 : decode cX10_readNot 14 = .ok (.if_icmp .ne 8, 3) := dk_160 0 8 (dk_at dksX10_readNot_0 14 rfl rfl)
theorem dX10_readNot_17 : decode cX10_readNot 17 = .ok (.aload_n 0, 1) := dk_42 (dk_at dksX10_readNot_0 17 rfl rfl)
theorem dX10_readNot_18 : decode cX10_readNot 18 = .ok (.iconst 2, 1) := dk_5 (dk_at dksX10_readNot_0 18 rfl rfl)
theorem dX10_readNot_19 : decode cX10_readNot 19 = .ok (.invokevirtual 189, 3) := dk_182 0 189 (dk_at dksX10_readNot_0 19 rfl rfl)
theorem dX10_readNot_22 : decode cX10_readNot 22 = .ok (.iinc 2 1, 3) := dk_132 2 1 (dk_at dksX10_readNot_1 0 rfl rfl)
theorem dX10_readNot_25 : decode cX10_readNot 25 = .ok (.aload_n 0, 1) := dk_42 (dk_at dksX10_readNot_1 3 rfl rfl)
theorem dX10_readNot_26 : decode cX10_readNot 26 = .ok (.getfield 168, 3) := dk_180 0 168 (dk_at dksX10_readNot_1 4 rfl rfl)
theorem dX10_readNot_29 : decode cX10_readNot 29 = .ok (.ifCond .ne (-27), 3) := dk_154 255 229 (dk_at dksX10_readNot_1 7 rfl rfl)
theorem dX10_readNot_32 : decode cX10_readNot 32 = .ok (.aload_n 0, 1) := dk_42 (dk_at dksX10_readNot_1 10 rfl rfl)
theorem dX10_readNot_33 : decode cX10_readNot 33 = .ok (.invokevirtual 193, 3) := dk_182 0 193 (dk_at dksX10_readNot_1 11 rfl rfl)
theorem dX10_readNot_36 : decode cX10_readNot 36 = .ok (.goto (-34), 3) := dk_167 255 222 (dk_at dksX10_readNot_1 14 rfl rfl)
theorem dX10_readNot_39 : decode cX10_readNot 39 = .ok (.aload_n 0, 1) := dk_42 (dk_at dksX10_readNot_1 17 rfl rfl)
theorem dX10_readNot_40 : decode cX10_readNot 40 = .ok (.iload_n 1, 1) := dk_27 (dk_at dksX10_readNot_1 18 rfl rfl)
theorem dX10_readNot_41 : decode cX10_readNot 41 = .ok (.invokevirtual 224, 3) := dk_182 0 224 (dk_at dksX10_readNot_1 19 rfl rfl)
theorem dX10_readNot_44 : decode cX10_readNot 44 = .ok (.aload_n 0, 1) := dk_42 (dk_at dksX10_readNot_1 22 rfl rfl)
theorem dX10_readNot_45 : decode cX10_readNot 45 = .ok (.bipush 60, 2) := dk_16 60 (dk_at dksX10_readNot_2 0 rfl rfl)
theorem dX10_readNot_47 : decode cX10_readNot 47 = .ok (.invokevirtual 186, 3) := dk_182 0 186 (dk_at dksX10_readNot_2 2 rfl rfl)
theorem dX10_readNot_50 : decode cX10_readNot 50 = .ok (.ifCond .ne 12, 3) := dk_154 0 12 (dk_at dksX10_readNot_2 5 rfl rfl)
theorem dX10_readNot_53 : decode cX10_readNot 53 = .ok (.aload_n 0, 1) := dk_42 (dk_at dksX10_readNot_2 8 rfl rfl)
theorem dX10_readNot_54 : decode cX10_readNot 54 = .ok (.bipush 61, 2) := dk_16 61 (dk_at dksX10_readNot_2 9 rfl rfl)
theorem dX10_readNot_56 : decode cX10_readNot 56 = .ok (.invokevirtual 186, 3) := dk_182 0 186 (dk_at dksX10_readNot_2 11 rfl rfl)
theorem dX10_readNot_59 : decode cX10_readNot 59 = .ok (.ifCond .eq 34, 3) := dk_153 0 34 (dk_at dksX10_readNot_2 14 rfl rfl)
theorem dX10_readNot_62 : decode cX10_readNot 62 = .ok (.aload_n 0, 1) := dk_42 (dk_at dksX10_readNot_2 17 rfl rfl)
theorem dX10_readNot_63 : decode cX10_readNot 63 = .ok (.bipush 60, 2) := dk_16 60 (dk_at dksX10_readNot_2 18 rfl rfl)
theorem dX10_readNot_65 : decode cX10_readNot 65 = .ok (.invokevirtual 186, 3) := dk_182 0 186 (dk_at dksX10_readNot_2 20 rfl rfl)
theorem dX10_readNot_68 : decode cX10_readNot 68 = .ok (.ifCond .eq 8, 3) := dk_153 0 8 (dk_at dksX10_readNot_3 0 rfl rfl)
theorem dX10_readNot_71 : decode cX10_readNot 71 = .ok (.bipush (-24), 2) := dk_16 232 (dk_at dksX10_readNot_3 3 rfl rfl)
theorem dX10_readNot_73 : decode cX10_readNot 73 = .ok (.goto 5, 3) := dk_167 0 5 (dk_at dksX10_readNot_3 5 rfl rfl)
theorem dX10_readNot_76 : decode cX10_readNot 76 = .ok (.bipush (-25), 2) := dk_16 231 (dk_at dksX10_readNot_3 8 rfl rfl)
theorem dX10_readNot_78 : decode cX10_readNot 78 = .ok (.istore_n 3, 1) := dk_62 (dk_at dksX10_readNot_3 10 rfl rfl)
theorem dX10_readNot_79 : decode cX10_readNot 79 = .ok (.aload_n 0, 1) := dk_42 (dk_at dksX10_readNot_3 11 rfl rfl)
theorem dX10_readNot_80 : decode cX10_readNot 80 = .ok (.invokevirtual 193, 3) := dk_182 0 193 (dk_at dksX10_readNot_3 12 rfl rfl)
theorem dX10_readNot_83 : decode cX10_readNot 83 = .ok (.aload_n 0, 1) := dk_42 (dk_at dksX10_readNot_3 15 rfl rfl)
theorem dX10_readNot_84 : decode cX10_readNot 84 = .ok (.iload_n 1, 1) := dk_27 (dk_at dksX10_readNot_3 16 rfl rfl)
theorem dX10_readNot_85 : decode cX10_readNot 85 = .ok (.invokevirtual 224, 3) := dk_182 0 224 (dk_at dksX10_readNot_3 17 rfl rfl)
theorem dX10_readNot_88 : decode cX10_readNot 88 = .ok (.aload_n 0, 1) := dk_42 (dk_at dksX10_readNot_3 20 rfl rfl)
theorem dX10_readNot_89 : decode cX10_readNot 89 = .ok (.iload_n 3, 1) := dk_29 (dk_at dksX10_readNot_3 21 rfl rfl)
theorem dX10_readNot_90 : decode cX10_readNot 90 = .ok (.invokevirtual 203, 3) := dk_182 0 203 (dk_at dksX10_readNot_4 0 rfl rfl)
theorem dX10_readNot_93 : decode cX10_readNot 93 = .ok (.iconst 0, 1) := dk_3 (dk_at dksX10_readNot_4 3 rfl rfl)
theorem dX10_readNot_94 : decode cX10_readNot 94 = .ok (.istore_n 3, 1) := dk_62 (dk_at dksX10_readNot_4 4 rfl rfl)
theorem dX10_readNot_95 : decode cX10_readNot 95 = .ok (.iload_n 3, 1) := dk_29 (dk_at dksX10_readNot_4 5 rfl rfl)
theorem dX10_readNot_96 : decode cX10_readNot 96 = .ok (.iload_n 2, 1) := dk_28 (dk_at dksX10_readNot_4 6 rfl rfl)
theorem dX10_readNot_97 : decode cX10_readNot 97 = .ok (.if_icmp .ge 15, 3) := dk_162 0 15 (dk_at dksX10_readNot_4 7 rfl rfl)
theorem dX10_readNot_100 : decode cX10_readNot 100 = .ok (.aload_n 0, 1) := dk_42 (dk_at dksX10_readNot_4 10 rfl rfl)
theorem dX10_readNot_101 : decode cX10_readNot 101 = .ok (.bipush (-28), 2) := dk_16 228 (dk_at dksX10_readNot_4 11 rfl rfl)
theorem dX10_readNot_103 : decode cX10_readNot 103 = .ok (.invokevirtual 203, 3) := dk_182 0 203 (dk_at dksX10_readNot_4 13 rfl rfl)
theorem dX10_readNot_106 : decode cX10_readNot 106 = .ok (.iinc 3 1, 3) := dk_132 3 1 (dk_at dksX10_readNot_4 16 rfl rfl)
theorem dX10_readNot_109 : decode cX10_readNot 109 = .ok (.goto (-14), 3) := dk_167 255 242 (dk_at dksX10_readNot_4 19 rfl rfl)
theorem dX10_readNot_112 : decode cX10_readNot 112 = .ok (.return_, 1) := dk_177 (dk_at dksX10_readNot_4 22 rfl rfl)
abbrev cX10_readSum : ByteArray := prog_22_method_22_code
def yX10_readSum : MethodName := ⟨RX10, "readSum", "(I)V"⟩
def dkwX10_readSum_2 : List UInt8 := [182, 0, 219, 42, 28, 182, 0, 203, 167, 255, 207, 177]
abbrev dktX10_readSum_2 : List UInt8 := dkwX10_readSum_2 ++ []
def dkwX10_readSum_1 : List UInt8 := [16, 43, 182, 0, 186, 153, 0, 8, 16, 236, 167, 0, 5, 16, 235, 61, 42, 182, 0, 193, 42, 27]
abbrev dktX10_readSum_1 : List UInt8 := dkwX10_readSum_1 ++ dktX10_readSum_2
def dkwX10_readSum_0 : List UInt8 := [42, 27, 182, 0, 219, 42, 16, 43, 182, 0, 186, 154, 0, 12, 42, 16, 45, 182, 0, 186, 153, 0, 37, 42]
abbrev dktX10_readSum_0 : List UInt8 := dkwX10_readSum_0 ++ dktX10_readSum_1
theorem dksX10_readSum_0 : cX10_readSum.data.toList.drop 0 = dktX10_readSum_0 := by decide +kernel
theorem dksX10_readSum_1 : cX10_readSum.data.toList.drop 24 = dktX10_readSum_1 := dk_seg dksX10_readSum_0 24 rfl rfl
theorem dksX10_readSum_2 : cX10_readSum.data.toList.drop 46 = dktX10_readSum_2 := dk_seg dksX10_readSum_1 22 rfl rfl
theorem dX10_readSum_0 : decode cX10_readSum 0 = .ok (.aload_n 0, 1) := dk_42 (dk_at dksX10_readSum_0 0 rfl rfl)
theorem dX10_readSum_1 : decode cX10_readSum 1 = .ok (.iload_n 1, 1) := dk_27 (dk_at dksX10_readSum_0 1 rfl rfl)
theorem dX10_readSum_2 : decode cX10_readSum 2 = .ok (.invokevirtual 219, 3) := dk_182 0 219 (dk_at dksX10_readSum_0 2 rfl rfl)
theorem dX10_readSum_5 : decode cX10_readSum 5 = .ok (.aload_n 0, 1) := dk_42 (dk_at dksX10_readSum_0 5 rfl rfl)
theorem dX10_readSum_6 : decode cX10_readSum 6 = .ok (.bipush 43, 2) := dk_16 43 (dk_at dksX10_readSum_0 6 rfl rfl)
theorem dX10_readSum_8 : decode cX10_readSum 8 = .ok (.invokevirtual 186, 3) := dk_182 0 186 (dk_at dksX10_readSum_0 8 rfl rfl)
theorem dX10_readSum_11 : decode cX10_readSum 11 = .ok (.ifCond .ne 12, 3) := dk_154 0 12 (dk_at dksX10_readSum_0 11 rfl rfl)
theorem dX10_readSum_14 : decode cX10_readSum 14 = .ok (.aload_n 0, 1) := dk_42 (dk_at dksX10_readSum_0 14 rfl rfl)
theorem dX10_readSum_15 : decode cX10_readSum 15 = .ok (.bipush 45, 2) := dk_16 45 (dk_at dksX10_readSum_0 15 rfl rfl)
theorem dX10_readSum_17 : decode cX10_readSum 17 = .ok (.invokevirtual 186, 3) := dk_182 0 186 (dk_at dksX10_readSum_0 17 rfl rfl)
theorem dX10_readSum_20 : decode cX10_readSum 20 = .ok (.ifCond .eq 37, 3) := dk_153 0 37 (dk_at dksX10_readSum_0 20 rfl rfl)
theorem dX10_readSum_23 : decode cX10_readSum 23 = .ok (.aload_n 0, 1) := dk_42 (dk_at dksX10_readSum_0 23 rfl rfl)
theorem dX10_readSum_24 : decode cX10_readSum 24 = .ok (.bipush 43, 2) := dk_16 43 (dk_at dksX10_readSum_1 0 rfl rfl)
theorem dX10_readSum_26 : decode cX10_readSum 26 = .ok (.invokevirtual 186, 3) := dk_182 0 186 (dk_at dksX10_readSum_1 2 rfl rfl)
theorem dX10_readSum_29 : decode cX10_readSum 29 = .ok (.ifCond .eq 8, 3) := dk_153 0 8 (dk_at dksX10_readSum_1 5 rfl rfl)
theorem dX10_readSum_32 : decode cX10_readSum 32 = .ok (.bipush (-20), 2) := dk_16 236 (dk_at dksX10_readSum_1 8 rfl rfl)
theorem dX10_readSum_34 : decode cX10_readSum 34 = .ok (.goto 5, 3) := dk_167 0 5 (dk_at dksX10_readSum_1 10 rfl rfl)
theorem dX10_readSum_37 : decode cX10_readSum 37 = .ok (.bipush (-21), 2) := dk_16 235 (dk_at dksX10_readSum_1 13 rfl rfl)
theorem dX10_readSum_39 : decode cX10_readSum 39 = .ok (.istore_n 2, 1) := dk_61 (dk_at dksX10_readSum_1 15 rfl rfl)
theorem dX10_readSum_40 : decode cX10_readSum 40 = .ok (.aload_n 0, 1) := dk_42 (dk_at dksX10_readSum_1 16 rfl rfl)
theorem dX10_readSum_41 : decode cX10_readSum 41 = .ok (.invokevirtual 193, 3) := dk_182 0 193 (dk_at dksX10_readSum_1 17 rfl rfl)
theorem dX10_readSum_44 : decode cX10_readSum 44 = .ok (.aload_n 0, 1) := dk_42 (dk_at dksX10_readSum_1 20 rfl rfl)
theorem dX10_readSum_45 : decode cX10_readSum 45 = .ok (.iload_n 1, 1) := dk_27 (dk_at dksX10_readSum_1 21 rfl rfl)
theorem dX10_readSum_46 : decode cX10_readSum 46 = .ok (.invokevirtual 219, 3) := dk_182 0 219 (dk_at dksX10_readSum_2 0 rfl rfl)
theorem dX10_readSum_49 : decode cX10_readSum 49 = .ok (.aload_n 0, 1) := dk_42 (dk_at dksX10_readSum_2 3 rfl rfl)
theorem dX10_readSum_50 : decode cX10_readSum 50 = .ok (.iload_n 2, 1) := dk_28 (dk_at dksX10_readSum_2 4 rfl rfl)
theorem dX10_readSum_51 : decode cX10_readSum 51 = .ok (.invokevirtual 203, 3) := dk_182 0 203 (dk_at dksX10_readSum_2 5 rfl rfl)
theorem dX10_readSum_54 : decode cX10_readSum 54 = .ok (.goto (-49), 3) := dk_167 255 207 (dk_at dksX10_readSum_2 8 rfl rfl)
theorem dX10_readSum_57 : decode cX10_readSum 57 = .ok (.return_, 1) := dk_177 (dk_at dksX10_readSum_2 11 rfl rfl)
abbrev cX10_readProduct : ByteArray := prog_22_method_21_code
def yX10_readProduct : MethodName := ⟨RX10, "readProduct", "(I)V"⟩
def dkwX10_readProduct_2 : List UInt8 := [182, 0, 216, 42, 28, 182, 0, 203, 167, 255, 207, 177]
abbrev dktX10_readProduct_2 : List UInt8 := dkwX10_readProduct_2 ++ []
def dkwX10_readProduct_1 : List UInt8 := [16, 42, 182, 0, 186, 153, 0, 8, 16, 234, 167, 0, 5, 16, 233, 61, 42, 182, 0, 193, 42, 27]
abbrev dktX10_readProduct_1 : List UInt8 := dkwX10_readProduct_1 ++ dktX10_readProduct_2
def dkwX10_readProduct_0 : List UInt8 := [42, 27, 182, 0, 216, 42, 16, 42, 182, 0, 186, 154, 0, 12, 42, 16, 47, 182, 0, 186, 153, 0, 37, 42]
abbrev dktX10_readProduct_0 : List UInt8 := dkwX10_readProduct_0 ++ dktX10_readProduct_1
theorem dksX10_readProduct_0 : cX10_readProduct.data.toList.drop 0 = dktX10_readProduct_0 := by decide +kernel
theorem dksX10_readProduct_1 : cX10_readProduct.data.toList.drop 24 = dktX10_readProduct_1 := dk_seg dksX10_readProduct_0 24 rfl rfl
theorem dksX10_readProduct_2 : cX10_readProduct.data.toList.drop 46 = dktX10_readProduct_2 := dk_seg dksX10_readProduct_1 22 rfl rfl
theorem dX10_readProduct_0 : decode cX10_readProduct 0 = .ok (.aload_n 0, 1) := dk_42 (dk_at dksX10_readProduct_0 0 rfl rfl)
theorem dX10_readProduct_1 : decode cX10_readProduct 1 = .ok (.iload_n 1, 1) := dk_27 (dk_at dksX10_readProduct_0 1 rfl rfl)
theorem dX10_readProduct_2 : decode cX10_readProduct 2 = .ok (.invokevirtual 216, 3) := dk_182 0 216 (dk_at dksX10_readProduct_0 2 rfl rfl)
theorem dX10_readProduct_5 : decode cX10_readProduct 5 = .ok (.aload_n 0, 1) := dk_42 (dk_at dksX10_readProduct_0 5 rfl rfl)
theorem dX10_readProduct_6 : decode cX10_readProduct 6 = .ok (.bipush 42, 2) := dk_16 42 (dk_at dksX10_readProduct_0 6 rfl rfl)
theorem dX10_readProduct_8 : decode cX10_readProduct 8 = .ok (.invokevirtual 186, 3) := dk_182 0 186 (dk_at dksX10_readProduct_0 8 rfl rfl)
theorem dX10_readProduct_11 : decode cX10_readProduct 11 = .ok (.ifCond .ne 12, 3) := dk_154 0 12 (dk_at dksX10_readProduct_0 11 rfl rfl)
theorem dX10_readProduct_14 : decode cX10_readProduct 14 = .ok (.aload_n 0, 1) := dk_42 (dk_at dksX10_readProduct_0 14 rfl rfl)
theorem dX10_readProduct_15 : decode cX10_readProduct 15 = .ok (.bipush 47, 2) := dk_16 47 (dk_at dksX10_readProduct_0 15 rfl rfl)
theorem dX10_readProduct_17 : decode cX10_readProduct 17 = .ok (.invokevirtual 186, 3) := dk_182 0 186 (dk_at dksX10_readProduct_0 17 rfl rfl)
theorem dX10_readProduct_20 : decode cX10_readProduct 20 = .ok (.ifCond .eq 37, 3) := dk_153 0 37 (dk_at dksX10_readProduct_0 20 rfl rfl)
theorem dX10_readProduct_23 : decode cX10_readProduct 23 = .ok (.aload_n 0, 1) := dk_42 (dk_at dksX10_readProduct_0 23 rfl rfl)
theorem dX10_readProduct_24 : decode cX10_readProduct 24 = .ok (.bipush 42, 2) := dk_16 42 (dk_at dksX10_readProduct_1 0 rfl rfl)
theorem dX10_readProduct_26 : decode cX10_readProduct 26 = .ok (.invokevirtual 186, 3) := dk_182 0 186 (dk_at dksX10_readProduct_1 2 rfl rfl)
theorem dX10_readProduct_29 : decode cX10_readProduct 29 = .ok (.ifCond .eq 8, 3) := dk_153 0 8 (dk_at dksX10_readProduct_1 5 rfl rfl)
theorem dX10_readProduct_32 : decode cX10_readProduct 32 = .ok (.bipush (-22), 2) := dk_16 234 (dk_at dksX10_readProduct_1 8 rfl rfl)
theorem dX10_readProduct_34 : decode cX10_readProduct 34 = .ok (.goto 5, 3) := dk_167 0 5 (dk_at dksX10_readProduct_1 10 rfl rfl)
theorem dX10_readProduct_37 : decode cX10_readProduct 37 = .ok (.bipush (-23), 2) := dk_16 233 (dk_at dksX10_readProduct_1 13 rfl rfl)
theorem dX10_readProduct_39 : decode cX10_readProduct 39 = .ok (.istore_n 2, 1) := dk_61 (dk_at dksX10_readProduct_1 15 rfl rfl)
theorem dX10_readProduct_40 : decode cX10_readProduct 40 = .ok (.aload_n 0, 1) := dk_42 (dk_at dksX10_readProduct_1 16 rfl rfl)
theorem dX10_readProduct_41 : decode cX10_readProduct 41 = .ok (.invokevirtual 193, 3) := dk_182 0 193 (dk_at dksX10_readProduct_1 17 rfl rfl)
theorem dX10_readProduct_44 : decode cX10_readProduct 44 = .ok (.aload_n 0, 1) := dk_42 (dk_at dksX10_readProduct_1 20 rfl rfl)
theorem dX10_readProduct_45 : decode cX10_readProduct 45 = .ok (.iload_n 1, 1) := dk_27 (dk_at dksX10_readProduct_1 21 rfl rfl)
theorem dX10_readProduct_46 : decode cX10_readProduct 46 = .ok (.invokevirtual 216, 3) := dk_182 0 216 (dk_at dksX10_readProduct_2 0 rfl rfl)
theorem dX10_readProduct_49 : decode cX10_readProduct 49 = .ok (.aload_n 0, 1) := dk_42 (dk_at dksX10_readProduct_2 3 rfl rfl)
theorem dX10_readProduct_50 : decode cX10_readProduct 50 = .ok (.iload_n 2, 1) := dk_28 (dk_at dksX10_readProduct_2 4 rfl rfl)
theorem dX10_readProduct_51 : decode cX10_readProduct 51 = .ok (.invokevirtual 203, 3) := dk_182 0 203 (dk_at dksX10_readProduct_2 5 rfl rfl)
theorem dX10_readProduct_54 : decode cX10_readProduct 54 = .ok (.goto (-49), 3) := dk_167 255 207 (dk_at dksX10_readProduct_2 8 rfl rfl)
theorem dX10_readProduct_57 : decode cX10_readProduct 57 = .ok (.return_, 1) := dk_177 (dk_at dksX10_readProduct_2 11 rfl rfl)
abbrev cX10_readPart : ByteArray := prog_22_method_20_code
def yX10_readPart : MethodName := ⟨RX10, "readPart", "(I)V"⟩
def dkwX10_readPart_4 : List UInt8 := [177]
abbrev dktX10_readPart_4 : List UInt8 := dkwX10_readPart_4 ++ []
def dkwX10_readPart_3 : List UInt8 := [42, 182, 0, 193, 177, 42, 16, 40, 182, 0, 210, 42, 27, 4, 96, 182, 0, 213, 42, 16, 41, 182, 0, 210]
abbrev dktX10_readPart_3 : List UInt8 := dkwX10_readPart_3 ++ dktX10_readPart_4
def dkwX10_readPart_2 : List UInt8 := [28, 2, 160, 0, 8, 42, 6, 182, 0, 189, 42, 2, 28, 100, 182, 0, 203, 42, 180, 0, 168, 154, 0, 7]
abbrev dktX10_readPart_2 : List UInt8 := dkwX10_readPart_2 ++ dktX10_readPart_3
def dkwX10_readPart_1 : List UInt8 := [182, 0, 200, 182, 0, 203, 177, 42, 180, 0, 148, 4, 160, 0, 41, 42, 42, 180, 0, 19, 182, 0, 206, 61]
abbrev dktX10_readPart_1 : List UInt8 := dkwX10_readPart_1 ++ dktX10_readPart_2
def dkwX10_readPart_0 : List UInt8 := [42, 180, 0, 168, 153, 0, 4, 177, 42, 180, 0, 148, 5, 160, 0, 16, 42, 42, 3, 17, 39, 15]
abbrev dktX10_readPart_0 : List UInt8 := dkwX10_readPart_0 ++ dktX10_readPart_1
theorem dksX10_readPart_0 : cX10_readPart.data.toList.drop 0 = dktX10_readPart_0 := by decide +kernel
theorem dksX10_readPart_1 : cX10_readPart.data.toList.drop 22 = dktX10_readPart_1 := dk_seg dksX10_readPart_0 22 rfl rfl
theorem dksX10_readPart_2 : cX10_readPart.data.toList.drop 46 = dktX10_readPart_2 := dk_seg dksX10_readPart_1 24 rfl rfl
theorem dksX10_readPart_3 : cX10_readPart.data.toList.drop 70 = dktX10_readPart_3 := dk_seg dksX10_readPart_2 24 rfl rfl
theorem dksX10_readPart_4 : cX10_readPart.data.toList.drop 94 = dktX10_readPart_4 := dk_seg dksX10_readPart_3 24 rfl rfl
theorem dX10_readPart_0 : decode cX10_readPart 0 = .ok (.aload_n 0, 1) := dk_42 (dk_at dksX10_readPart_0 0 rfl rfl)
theorem dX10_readPart_1 : decode cX10_readPart 1 = .ok (.getfield 168, 3) := dk_180 0 168 (dk_at dksX10_readPart_0 1 rfl rfl)
theorem dX10_readPart_4 : decode cX10_readPart 4 = .ok (.ifCond .eq 4, 3) := dk_153 0 4 (dk_at dksX10_readPart_0 4 rfl rfl)
theorem dX10_readPart_7 : decode cX10_readPart 7 = .ok (.return_, 1) := dk_177 (dk_at dksX10_readPart_0 7 rfl rfl)
theorem dX10_readPart_8 : decode cX10_readPart 8 = .ok (.aload_n 0, 1) := dk_42 (dk_at dksX10_readPart_0 8 rfl rfl)
theorem dX10_readPart_9 : decode cX10_readPart 9 = .ok (.getfield 148, 3) := dk_180 0 148 (dk_at dksX10_readPart_0 9 rfl rfl)
theorem dX10_readPart_12 : decode cX10_readPart 12 = .ok (.iconst 2, 1) := dk_5 (dk_at dksX10_readPart_0 12 rfl rfl)
theorem dX10_readPart_13 : decode cX10_readPart 13 = .ok (.if_icmp .ne 16, 3) := dk_160 0 16 (dk_at dksX10_readPart_0 13 rfl rfl)
theorem dX10_readPart_16 : decode cX10_readPart 16 = .ok (.aload_n 0, 1) := dk_42 (dk_at dksX10_readPart_0 16 rfl rfl)
theorem dX10_readPart_17 : decode cX10_readPart 17 = .ok (.aload_n 0, 1) := dk_42 (dk_at dksX10_readPart_0 17 rfl rfl)
theorem dX10_readPart_18 : decode cX10_readPart 18 = .ok (.iconst 0, 1) := dk_3 (dk_at dksX10_readPart_0 18 rfl rfl)
theorem dX10_readPart_19 : decode cX10_readPart 19 = .ok (.sipush 9999, 3) := dk_17 39 15 (dk_at dksX10_readPart_0 19 rfl rfl)
theorem dX10_readPart_22 : decode cX10_readPart 22 = .ok (.invokevirtual 200, 3) := dk_182 0 200 (dk_at dksX10_readPart_1 0 rfl rfl)
theorem dX10_readPart_25 : decode cX10_readPart 25 = .ok (.invokevirtual 203, 3) := dk_182 0 203 (dk_at dksX10_readPart_1 3 rfl rfl)
theorem dX10_readPart_28 : decode cX10_readPart 28 = .ok (.return_, 1) := dk_177 (dk_at dksX10_readPart_1 6 rfl rfl)
theorem dX10_readPart_29 : decode cX10_readPart 29 = .ok (.aload_n 0, 1) := dk_42 (dk_at dksX10_readPart_1 7 rfl rfl)
theorem dX10_readPart_30 : decode cX10_readPart 30 = .ok (.getfield 148, 3) := dk_180 0 148 (dk_at dksX10_readPart_1 8 rfl rfl)
theorem dX10_readPart_33 : decode cX10_readPart 33 = .ok (.iconst 1, 1) := dk_4 (dk_at dksX10_readPart_1 11 rfl rfl)
theorem dX10_readPart_34 : decode cX10_readPart 34 = .ok (.if_icmp .ne 41, 3) := dk_160 0 41 (dk_at dksX10_readPart_1 12 rfl rfl)
theorem dX10_readPart_37 : decode cX10_readPart 37 = .ok (.aload_n 0, 1) := dk_42 (dk_at dksX10_readPart_1 15 rfl rfl)
theorem dX10_readPart_38 : decode cX10_readPart 38 = .ok (.aload_n 0, 1) := dk_42 (dk_at dksX10_readPart_1 16 rfl rfl)
theorem dX10_readPart_39 : decode cX10_readPart 39 = .ok (.getfield 19, 3) := dk_180 0 19 (dk_at dksX10_readPart_1 17 rfl rfl)
theorem dX10_readPart_42 : decode cX10_readPart 42 = .ok (.invokevirtual 206, 3) := dk_182 0 206 (dk_at dksX10_readPart_1 20 rfl rfl)
theorem dX10_readPart_45 : decode cX10_readPart 45 = .ok (.istore_n 2, 1) := dk_61 (dk_at dksX10_readPart_1 23 rfl rfl)
theorem dX10_readPart_46 : decode cX10_readPart 46 = .ok (.iload_n 2, 1) := dk_28 (dk_at dksX10_readPart_2 0 rfl rfl)
theorem dX10_readPart_47 : decode cX10_readPart 47 = .ok (.iconst (-1), 1) := dk_2 (dk_at dksX10_readPart_2 1 rfl rfl)
theorem dX10_readPart_48 : decode cX10_readPart 48 = .ok (.if_icmp .ne 8, 3) := dk_160 0 8 (dk_at dksX10_readPart_2 2 rfl rfl)
theorem dX10_readPart_51 : decode cX10_readPart 51 = .ok (.aload_n 0, 1) := dk_42 (dk_at dksX10_readPart_2 5 rfl rfl)
theorem dX10_readPart_52 : decode cX10_readPart 52 = .ok (.iconst 3, 1) := dk_6 (dk_at dksX10_readPart_2 6 rfl rfl)
theorem dX10_readPart_53 : decode cX10_readPart 53 = .ok (.invokevirtual 189, 3) := dk_182 0 189 (dk_at dksX10_readPart_2 7 rfl rfl)
theorem dX10_readPart_56 : decode cX10_readPart 56 = .ok (.aload_n 0, 1) := dk_42 (dk_at dksX10_readPart_2 10 rfl rfl)
theorem dX10_readPart_57 : decode cX10_readPart 57 = .ok (.iconst (-1), 1) := dk_2 (dk_at dksX10_readPart_2 11 rfl rfl)
theorem dX10_readPart_58 : decode cX10_readPart 58 = .ok (.iload_n 2, 1) := dk_28 (dk_at dksX10_readPart_2 12 rfl rfl)
theorem dX10_readPart_59 : decode cX10_readPart 59 = .ok (.isub, 1) := dk_100 (dk_at dksX10_readPart_2 13 rfl rfl)
theorem dX10_readPart_60 : decode cX10_readPart 60 = .ok (.invokevirtual 203, 3) := dk_182 0 203 (dk_at dksX10_readPart_2 14 rfl rfl)
theorem dX10_readPart_63 : decode cX10_readPart 63 = .ok (.aload_n 0, 1) := dk_42 (dk_at dksX10_readPart_2 17 rfl rfl)
theorem dX10_readPart_64 : decode cX10_readPart 64 = .ok (.getfield 168, 3) := dk_180 0 168 (dk_at dksX10_readPart_2 18 rfl rfl)
theorem dX10_readPart_67 : decode cX10_readPart 67 = .ok (.ifCond .ne 7, 3) := dk_154 0 7 (dk_at dksX10_readPart_2 21 rfl rfl)
theorem dX10_readPart_70 : decode cX10_readPart 70 = .ok (.aload_n 0, 1) := dk_42 (dk_at dksX10_readPart_3 0 rfl rfl)
theorem dX10_readPart_71 : decode cX10_readPart 71 = .ok (.invokevirtual 193, 3) := dk_182 0 193 (dk_at dksX10_readPart_3 1 rfl rfl)
theorem dX10_readPart_74 : decode cX10_readPart 74 = .ok (.return_, 1) := dk_177 (dk_at dksX10_readPart_3 4 rfl rfl)
theorem dX10_readPart_75 : decode cX10_readPart 75 = .ok (.aload_n 0, 1) := dk_42 (dk_at dksX10_readPart_3 5 rfl rfl)
theorem dX10_readPart_76 : decode cX10_readPart 76 = .ok (.bipush 40, 2) := dk_16 40 (dk_at dksX10_readPart_3 6 rfl rfl)
theorem dX10_readPart_78 : decode cX10_readPart 78 = .ok (.invokevirtual 210, 3) := dk_182 0 210 (dk_at dksX10_readPart_3 8 rfl rfl)
theorem dX10_readPart_81 : decode cX10_readPart 81 = .ok (.aload_n 0, 1) := dk_42 (dk_at dksX10_readPart_3 11 rfl rfl)
theorem dX10_readPart_82 : decode cX10_readPart 82 = .ok (.iload_n 1, 1) := dk_27 (dk_at dksX10_readPart_3 12 rfl rfl)
theorem dX10_readPart_83 : decode cX10_readPart 83 = .ok (.iconst 1, 1) := dk_4 (dk_at dksX10_readPart_3 13 rfl rfl)
theorem dX10_readPart_84 : decode cX10_readPart 84 = .ok (.iadd, 1) := dk_96 (dk_at dksX10_readPart_3 14 rfl rfl)
theorem dX10_readPart_85 : decode cX10_readPart 85 = .ok (.invokevirtual 213, 3) := dk_182 0 213 (dk_at dksX10_readPart_3 15 rfl rfl)
theorem dX10_readPart_88 : decode cX10_readPart 88 = .ok (.aload_n 0, 1) := dk_42 (dk_at dksX10_readPart_3 18 rfl rfl)
theorem dX10_readPart_89 : decode cX10_readPart 89 = .ok (.bipush 41, 2) := dk_16 41 (dk_at dksX10_readPart_3 19 rfl rfl)
theorem dX10_readPart_91 : decode cX10_readPart 91 = .ok (.invokevirtual 210, 3) := dk_182 0 210 (dk_at dksX10_readPart_3 21 rfl rfl)
theorem dX10_readPart_94 : decode cX10_readPart 94 = .ok (.return_, 1) := dk_177 (dk_at dksX10_readPart_4 0 rfl rfl)
abbrev cX10_lay : ByteArray := prog_22_method_19_code
def yX10_lay : MethodName := ⟨RX10, "lay", "(I)V"⟩
def dkwX10_lay_3 : List UInt8 := [28, 92, 46, 4, 96, 79, 177]
abbrev dktX10_lay_3 : List UInt8 := dkwX10_lay_3 ++ []
def dkwX10_lay_2 : List UInt8 := [79, 167, 0, 19, 42, 180, 0, 50, 17, 2, 188, 42, 180, 0, 44, 28, 46, 96, 27, 79, 42, 180, 0, 44]
abbrev dktX10_lay_2 : List UInt8 := dkwX10_lay_2 ++ dktX10_lay_3
def dkwX10_lay_1 : List UInt8 := [96, 61, 42, 180, 0, 196, 153, 0, 22, 42, 180, 0, 53, 17, 2, 188, 42, 180, 0, 44, 28, 46, 96, 27]
abbrev dktX10_lay_1 : List UInt8 := dkwX10_lay_1 ++ dktX10_lay_2
def dkwX10_lay_0 : List UInt8 := [42, 180, 0, 168, 153, 0, 4, 177, 16, 10, 42, 180, 0, 196, 153, 0, 8, 16, 9, 167, 0, 5, 16, 8]
abbrev dktX10_lay_0 : List UInt8 := dkwX10_lay_0 ++ dktX10_lay_1
theorem dksX10_lay_0 : cX10_lay.data.toList.drop 0 = dktX10_lay_0 := by decide +kernel
theorem dksX10_lay_1 : cX10_lay.data.toList.drop 24 = dktX10_lay_1 := dk_seg dksX10_lay_0 24 rfl rfl
theorem dksX10_lay_2 : cX10_lay.data.toList.drop 48 = dktX10_lay_2 := dk_seg dksX10_lay_1 24 rfl rfl
theorem dksX10_lay_3 : cX10_lay.data.toList.drop 72 = dktX10_lay_3 := dk_seg dksX10_lay_2 24 rfl rfl
theorem dX10_lay_0 : decode cX10_lay 0 = .ok (.aload_n 0, 1) := dk_42 (dk_at dksX10_lay_0 0 rfl rfl)
theorem dX10_lay_1 : decode cX10_lay 1 = .ok (.getfield 168, 3) := dk_180 0 168 (dk_at dksX10_lay_0 1 rfl rfl)
theorem dX10_lay_4 : decode cX10_lay 4 = .ok (.ifCond .eq 4, 3) := dk_153 0 4 (dk_at dksX10_lay_0 4 rfl rfl)
theorem dX10_lay_7 : decode cX10_lay 7 = .ok (.return_, 1) := dk_177 (dk_at dksX10_lay_0 7 rfl rfl)
theorem dX10_lay_8 : decode cX10_lay 8 = .ok (.bipush 10, 2) := dk_16 10 (dk_at dksX10_lay_0 8 rfl rfl)
theorem dX10_lay_10 : decode cX10_lay 10 = .ok (.aload_n 0, 1) := dk_42 (dk_at dksX10_lay_0 10 rfl rfl)
theorem dX10_lay_11 : decode cX10_lay 11 = .ok (.getfield 196, 3) := dk_180 0 196 (dk_at dksX10_lay_0 11 rfl rfl)
theorem dX10_lay_14 : decode cX10_lay 14 = .ok (.ifCond .eq 8, 3) := dk_153 0 8 (dk_at dksX10_lay_0 14 rfl rfl)
theorem dX10_lay_17 : decode cX10_lay 17 = .ok (.bipush 9, 2) := dk_16 9 (dk_at dksX10_lay_0 17 rfl rfl)
theorem dX10_lay_19 : decode cX10_lay 19 = .ok (.goto 5, 3) := dk_167 0 5 (dk_at dksX10_lay_0 19 rfl rfl)
theorem dX10_lay_22 : decode cX10_lay 22 = .ok (.bipush 8, 2) := dk_16 8 (dk_at dksX10_lay_0 22 rfl rfl)
theorem dX10_lay_24 : decode cX10_lay 24 = .ok (.iadd, 1) := dk_96 (dk_at dksX10_lay_1 0 rfl rfl)
theorem dX10_lay_25 : decode cX10_lay 25 = .ok (.istore_n 2, 1) := dk_61 (dk_at dksX10_lay_1 1 rfl rfl)
theorem dX10_lay_26 : decode cX10_lay 26 = .ok (.aload_n 0, 1) := dk_42 (dk_at dksX10_lay_1 2 rfl rfl)
theorem dX10_lay_27 : decode cX10_lay 27 = .ok (.getfield 196, 3) := dk_180 0 196 (dk_at dksX10_lay_1 3 rfl rfl)
theorem dX10_lay_30 : decode cX10_lay 30 = .ok (.ifCond .eq 22, 3) := dk_153 0 22 (dk_at dksX10_lay_1 6 rfl rfl)
theorem dX10_lay_33 : decode cX10_lay 33 = .ok (.aload_n 0, 1) := dk_42 (dk_at dksX10_lay_1 9 rfl rfl)
theorem dX10_lay_34 : decode cX10_lay 34 = .ok (.getfield 53, 3) := dk_180 0 53 (dk_at dksX10_lay_1 10 rfl rfl)
theorem dX10_lay_37 : decode cX10_lay 37 = .ok (.sipush 700, 3) := dk_17 2 188 (dk_at dksX10_lay_1 13 rfl rfl)
theorem dX10_lay_40 : decode cX10_lay 40 = .ok (.aload_n 0, 1) := dk_42 (dk_at dksX10_lay_1 16 rfl rfl)
theorem dX10_lay_41 : decode cX10_lay 41 = .ok (.getfield 44, 3) := dk_180 0 44 (dk_at dksX10_lay_1 17 rfl rfl)
theorem dX10_lay_44 : decode cX10_lay 44 = .ok (.iload_n 2, 1) := dk_28 (dk_at dksX10_lay_1 20 rfl rfl)
theorem dX10_lay_45 : decode cX10_lay 45 = .ok (.iaload, 1) := dk_46 (dk_at dksX10_lay_1 21 rfl rfl)
theorem dX10_lay_46 : decode cX10_lay 46 = .ok (.iadd, 1) := dk_96 (dk_at dksX10_lay_1 22 rfl rfl)
theorem dX10_lay_47 : decode cX10_lay 47 = .ok (.iload_n 1, 1) := dk_27 (dk_at dksX10_lay_1 23 rfl rfl)
theorem dX10_lay_48 : decode cX10_lay 48 = .ok (.iastore, 1) := dk_79 (dk_at dksX10_lay_2 0 rfl rfl)
theorem dX10_lay_49 : decode cX10_lay 49 = .ok (.goto 19, 3) := dk_167 0 19 (dk_at dksX10_lay_2 1 rfl rfl)
theorem dX10_lay_52 : decode cX10_lay 52 = .ok (.aload_n 0, 1) := dk_42 (dk_at dksX10_lay_2 4 rfl rfl)
theorem dX10_lay_53 : decode cX10_lay 53 = .ok (.getfield 50, 3) := dk_180 0 50 (dk_at dksX10_lay_2 5 rfl rfl)
theorem dX10_lay_56 : decode cX10_lay 56 = .ok (.sipush 700, 3) := dk_17 2 188 (dk_at dksX10_lay_2 8 rfl rfl)
theorem dX10_lay_59 : decode cX10_lay 59 = .ok (.aload_n 0, 1) := dk_42 (dk_at dksX10_lay_2 11 rfl rfl)
theorem dX10_lay_60 : decode cX10_lay 60 = .ok (.getfield 44, 3) := dk_180 0 44 (dk_at dksX10_lay_2 12 rfl rfl)
theorem dX10_lay_63 : decode cX10_lay 63 = .ok (.iload_n 2, 1) := dk_28 (dk_at dksX10_lay_2 15 rfl rfl)
theorem dX10_lay_64 : decode cX10_lay 64 = .ok (.iaload, 1) := dk_46 (dk_at dksX10_lay_2 16 rfl rfl)
theorem dX10_lay_65 : decode cX10_lay 65 = .ok (.iadd, 1) := dk_96 (dk_at dksX10_lay_2 17 rfl rfl)
theorem dX10_lay_66 : decode cX10_lay 66 = .ok (.iload_n 1, 1) := dk_27 (dk_at dksX10_lay_2 18 rfl rfl)
theorem dX10_lay_67 : decode cX10_lay 67 = .ok (.iastore, 1) := dk_79 (dk_at dksX10_lay_2 19 rfl rfl)
theorem dX10_lay_68 : decode cX10_lay 68 = .ok (.aload_n 0, 1) := dk_42 (dk_at dksX10_lay_2 20 rfl rfl)
theorem dX10_lay_69 : decode cX10_lay 69 = .ok (.getfield 44, 3) := dk_180 0 44 (dk_at dksX10_lay_2 21 rfl rfl)
theorem dX10_lay_72 : decode cX10_lay 72 = .ok (.iload_n 2, 1) := dk_28 (dk_at dksX10_lay_3 0 rfl rfl)
theorem dX10_lay_73 : decode cX10_lay 73 = .ok (.dup2, 1) := dk_92 (dk_at dksX10_lay_3 1 rfl rfl)
theorem dX10_lay_74 : decode cX10_lay 74 = .ok (.iaload, 1) := dk_46 (dk_at dksX10_lay_3 2 rfl rfl)
theorem dX10_lay_75 : decode cX10_lay 75 = .ok (.iconst 1, 1) := dk_4 (dk_at dksX10_lay_3 3 rfl rfl)
theorem dX10_lay_76 : decode cX10_lay 76 = .ok (.iadd, 1) := dk_96 (dk_at dksX10_lay_3 4 rfl rfl)
theorem dX10_lay_77 : decode cX10_lay 77 = .ok (.iastore, 1) := dk_79 (dk_at dksX10_lay_3 5 rfl rfl)
theorem dX10_lay_78 : decode cX10_lay 78 = .ok (.return_, 1) := dk_177 (dk_at dksX10_lay_3 6 rfl rfl)
abbrev cX10_mark : ByteArray := prog_22_method_17_code
def yX10_mark : MethodName := ⟨RX10, "mark", "(I)V"⟩
def dkwX10_mark_1 : List UInt8 := [154, 0, 7, 42, 182, 0, 193, 177]
abbrev dktX10_mark_1 : List UInt8 := dkwX10_mark_1 ++ []
def dkwX10_mark_0 : List UInt8 := [42, 180, 0, 168, 154, 0, 16, 42, 27, 182, 0, 186, 154, 0, 8, 42, 4, 182, 0, 189, 42, 180, 0, 168]
abbrev dktX10_mark_0 : List UInt8 := dkwX10_mark_0 ++ dktX10_mark_1
theorem dksX10_mark_0 : cX10_mark.data.toList.drop 0 = dktX10_mark_0 := by decide +kernel
theorem dksX10_mark_1 : cX10_mark.data.toList.drop 24 = dktX10_mark_1 := dk_seg dksX10_mark_0 24 rfl rfl
theorem dX10_mark_0 : decode cX10_mark 0 = .ok (.aload_n 0, 1) := dk_42 (dk_at dksX10_mark_0 0 rfl rfl)
theorem dX10_mark_1 : decode cX10_mark 1 = .ok (.getfield 168, 3) := dk_180 0 168 (dk_at dksX10_mark_0 1 rfl rfl)
theorem dX10_mark_4 : decode cX10_mark 4 = .ok (.ifCond .ne 16, 3) := dk_154 0 16 (dk_at dksX10_mark_0 4 rfl rfl)
theorem dX10_mark_7 : decode cX10_mark 7 = .ok (.aload_n 0, 1) := dk_42 (dk_at dksX10_mark_0 7 rfl rfl)
theorem dX10_mark_8 : decode cX10_mark 8 = .ok (.iload_n 1, 1) := dk_27 (dk_at dksX10_mark_0 8 rfl rfl)
theorem dX10_mark_9 : decode cX10_mark 9 = .ok (.invokevirtual 186, 3) := dk_182 0 186 (dk_at dksX10_mark_0 9 rfl rfl)
theorem dX10_mark_12 : decode cX10_mark 12 = .ok (.ifCond .ne 8, 3) := dk_154 0 8 (dk_at dksX10_mark_0 12 rfl rfl)
theorem dX10_mark_15 : decode cX10_mark 15 = .ok (.aload_n 0, 1) := dk_42 (dk_at dksX10_mark_0 15 rfl rfl)
theorem dX10_mark_16 : decode cX10_mark 16 = .ok (.iconst 1, 1) := dk_4 (dk_at dksX10_mark_0 16 rfl rfl)
theorem dX10_mark_17 : decode cX10_mark 17 = .ok (.invokevirtual 189, 3) := dk_182 0 189 (dk_at dksX10_mark_0 17 rfl rfl)
theorem dX10_mark_20 : decode cX10_mark 20 = .ok (.aload_n 0, 1) := dk_42 (dk_at dksX10_mark_0 20 rfl rfl)
theorem dX10_mark_21 : decode cX10_mark 21 = .ok (.getfield 168, 3) := dk_180 0 168 (dk_at dksX10_mark_0 21 rfl rfl)
theorem dX10_mark_24 : decode cX10_mark 24 = .ok (.ifCond .ne 7, 3) := dk_154 0 7 (dk_at dksX10_mark_1 0 rfl rfl)
theorem dX10_mark_27 : decode cX10_mark 27 = .ok (.aload_n 0, 1) := dk_42 (dk_at dksX10_mark_1 3 rfl rfl)
theorem dX10_mark_28 : decode cX10_mark 28 = .ok (.invokevirtual 193, 3) := dk_182 0 193 (dk_at dksX10_mark_1 4 rfl rfl)
theorem dX10_mark_31 : decode cX10_mark 31 = .ok (.return_, 1) := dk_177 (dk_at dksX10_mark_1 7 rfl rfl)
abbrev cX10_fault : ByteArray := prog_22_method_34_code
def yX10_fault : MethodName := ⟨RX10, "fault", "()I"⟩
def dkwX10_fault_0 : List UInt8 := [42, 182, 0, 247, 42, 180, 0, 65, 172]
abbrev dktX10_fault_0 : List UInt8 := dkwX10_fault_0 ++ []
theorem dksX10_fault_0 : cX10_fault.data.toList.drop 0 = dktX10_fault_0 := by decide +kernel
theorem dX10_fault_0 : decode cX10_fault 0 = .ok (.aload_n 0, 1) := dk_42 (dk_at dksX10_fault_0 0 rfl rfl)
theorem dX10_fault_1 : decode cX10_fault 1 = .ok (.invokevirtual 247, 3) := dk_182 0 247 (dk_at dksX10_fault_0 1 rfl rfl)
theorem dX10_fault_4 : decode cX10_fault 4 = .ok (.aload_n 0, 1) := dk_42 (dk_at dksX10_fault_0 4 rfl rfl)
theorem dX10_fault_5 : decode cX10_fault 5 = .ok (.getfield 65, 3) := dk_180 0 65 (dk_at dksX10_fault_0 5 rfl rfl)
theorem dX10_fault_8 : decode cX10_fault 8 = .ok (.ireturn, 1) := dk_172 (dk_at dksX10_fault_0 8 rfl rfl)
abbrev cX10_count : ByteArray := prog_22_method_57_code
def yX10_count : MethodName := ⟨RX10, "count", "(I)I"⟩
def dkwX10_count_8 : List UInt8 := [180, 0, 56, 27, 16, 20, 100, 46, 172, 42, 4, 182, 0, 250, 172]
abbrev dktX10_count_8 : List UInt8 := dkwX10_count_8 ++ []
def dkwX10_count_7 : List UInt8 := [172, 42, 182, 1, 99, 172, 42, 180, 1, 22, 172, 42, 180, 1, 25, 172, 42, 180, 0, 133, 172, 42]
abbrev dktX10_count_7 : List UInt8 := dkwX10_count_7 ++ dktX10_count_8
def dkwX10_count_6 : List UInt8 := [16, 10, 46, 172, 42, 182, 1, 96, 172, 42, 180, 0, 59, 16, 12, 46, 172, 42, 180, 0, 59, 16, 13, 46]
abbrev dktX10_count_6 : List UInt8 := dkwX10_count_6 ++ dktX10_count_7
def dkwX10_count_5 : List UInt8 := [182, 1, 69, 172, 42, 180, 0, 59, 16, 8, 46, 172, 42, 180, 0, 59, 16, 9, 46, 172, 42, 180, 0, 59]
abbrev dktX10_count_5 : List UInt8 := dkwX10_count_5 ++ dktX10_count_6
def dkwX10_count_4 : List UInt8 := [180, 0, 59, 8, 46, 172, 42, 180, 0, 59, 16, 6, 46, 172, 42, 180, 0, 59, 16, 7, 46, 172, 42]
abbrev dktX10_count_4 : List UInt8 := dkwX10_count_4 ++ dktX10_count_5
def dkwX10_count_3 : List UInt8 := [180, 0, 59, 6, 46, 172, 42, 180, 0, 59, 16, 31, 46, 172, 42, 180, 0, 59, 7, 46, 172, 42]
abbrev dktX10_count_3 : List UInt8 := dkwX10_count_3 ++ dktX10_count_4
def dkwX10_count_2 : List UInt8 := [42, 180, 0, 59, 3, 46, 172, 42, 180, 0, 59, 4, 46, 172, 42, 180, 0, 59, 5, 46, 172, 42]
abbrev dktX10_count_2 : List UInt8 := dkwX10_count_2 ++ dktX10_count_3
def dkwX10_count_1 : List UInt8 := [170, 0, 0, 0, 0, 0, 253, 0, 0, 0, 0, 0, 0, 0, 22, 0, 0, 0, 107, 0, 0, 0, 114, 0, 0, 0, 121, 0, 0, 0, 128, 0, 0, 0, 135, 0, 0, 0, 143, 0, 0, 0, 150, 0, 0, 0, 157, 0, 0, 0, 165, 0, 0, 0, 173, 0, 0, 0, 178, 0, 0, 0, 186, 0, 0, 0, 194, 0, 0, 0, 202, 0, 0, 0, 207, 0, 0, 0, 215, 0, 0, 0, 223, 0, 0, 0, 228, 0, 0, 0, 233, 0, 0, 0, 238, 0, 0, 0, 243, 0, 0, 0, 243, 0, 0, 0, 243]
abbrev dktX10_count_1 : List UInt8 := dkwX10_count_1 ++ dktX10_count_2
def dkwX10_count_0 : List UInt8 := [42, 182, 0, 247, 27]
abbrev dktX10_count_0 : List UInt8 := dkwX10_count_0 ++ dktX10_count_1
theorem dksX10_count_0 : cX10_count.data.toList.drop 0 = dktX10_count_0 := by decide +kernel
theorem dksX10_count_1 : cX10_count.data.toList.drop 5 = dktX10_count_1 := dk_seg dksX10_count_0 5 rfl rfl
theorem dksX10_count_2 : cX10_count.data.toList.drop 112 = dktX10_count_2 := dk_seg dksX10_count_1 107 rfl rfl
theorem dksX10_count_3 : cX10_count.data.toList.drop 134 = dktX10_count_3 := dk_seg dksX10_count_2 22 rfl rfl
theorem dksX10_count_4 : cX10_count.data.toList.drop 156 = dktX10_count_4 := dk_seg dksX10_count_3 22 rfl rfl
theorem dksX10_count_5 : cX10_count.data.toList.drop 179 = dktX10_count_5 := dk_seg dksX10_count_4 23 rfl rfl
theorem dksX10_count_6 : cX10_count.data.toList.drop 203 = dktX10_count_6 := dk_seg dksX10_count_5 24 rfl rfl
theorem dksX10_count_7 : cX10_count.data.toList.drop 227 = dktX10_count_7 := dk_seg dksX10_count_6 24 rfl rfl
theorem dksX10_count_8 : cX10_count.data.toList.drop 249 = dktX10_count_8 := dk_seg dksX10_count_7 22 rfl rfl
theorem dX10_count_0 : decode cX10_count 0 = .ok (.aload_n 0, 1) := dk_42 (dk_at dksX10_count_0 0 rfl rfl)
theorem dX10_count_1 : decode cX10_count 1 = .ok (.invokevirtual 247, 3) := dk_182 0 247 (dk_at dksX10_count_0 1 rfl rfl)
theorem dX10_count_4 : decode cX10_count 4 = .ok (.iload_n 1, 1) := dk_27 (dk_at dksX10_count_0 4 rfl rfl)
theorem dX10_count_5 : decode cX10_count 5 = .ok (.tableswitch 253 0 22 #[107, 114, 121, 128, 135, 143, 150, 157, 165, 173, 178, 186, 194, 202, 207, 215, 223, 228, 233, 238, 243, 243, 243], 107) := by decide +kernel
theorem dX10_count_112 : decode cX10_count 112 = .ok (.aload_n 0, 1) := dk_42 (dk_at dksX10_count_2 0 rfl rfl)
theorem dX10_count_113 : decode cX10_count 113 = .ok (.getfield 59, 3) := dk_180 0 59 (dk_at dksX10_count_2 1 rfl rfl)
theorem dX10_count_116 : decode cX10_count 116 = .ok (.iconst 0, 1) := dk_3 (dk_at dksX10_count_2 4 rfl rfl)
theorem dX10_count_117 : decode cX10_count 117 = .ok (.iaload, 1) := dk_46 (dk_at dksX10_count_2 5 rfl rfl)
theorem dX10_count_118 : decode cX10_count 118 = .ok (.ireturn, 1) := dk_172 (dk_at dksX10_count_2 6 rfl rfl)
theorem dX10_count_119 : decode cX10_count 119 = .ok (.aload_n 0, 1) := dk_42 (dk_at dksX10_count_2 7 rfl rfl)
theorem dX10_count_120 : decode cX10_count 120 = .ok (.getfield 59, 3) := dk_180 0 59 (dk_at dksX10_count_2 8 rfl rfl)
theorem dX10_count_123 : decode cX10_count 123 = .ok (.iconst 1, 1) := dk_4 (dk_at dksX10_count_2 11 rfl rfl)
theorem dX10_count_124 : decode cX10_count 124 = .ok (.iaload, 1) := dk_46 (dk_at dksX10_count_2 12 rfl rfl)
theorem dX10_count_125 : decode cX10_count 125 = .ok (.ireturn, 1) := dk_172 (dk_at dksX10_count_2 13 rfl rfl)
theorem dX10_count_126 : decode cX10_count 126 = .ok (.aload_n 0, 1) := dk_42 (dk_at dksX10_count_2 14 rfl rfl)
theorem dX10_count_127 : decode cX10_count 127 = .ok (.getfield 59, 3) := dk_180 0 59 (dk_at dksX10_count_2 15 rfl rfl)
theorem dX10_count_130 : decode cX10_count 130 = .ok (.iconst 2, 1) := dk_5 (dk_at dksX10_count_2 18 rfl rfl)
theorem dX10_count_131 : decode cX10_count 131 = .ok (.iaload, 1) := dk_46 (dk_at dksX10_count_2 19 rfl rfl)
theorem dX10_count_132 : decode cX10_count 132 = .ok (.ireturn, 1) := dk_172 (dk_at dksX10_count_2 20 rfl rfl)
theorem dX10_count_133 : decode cX10_count 133 = .ok (.aload_n 0, 1) := dk_42 (dk_at dksX10_count_2 21 rfl rfl)
theorem dX10_count_134 : decode cX10_count 134 = .ok (.getfield 59, 3) := dk_180 0 59 (dk_at dksX10_count_3 0 rfl rfl)
theorem dX10_count_137 : decode cX10_count 137 = .ok (.iconst 3, 1) := dk_6 (dk_at dksX10_count_3 3 rfl rfl)
theorem dX10_count_138 : decode cX10_count 138 = .ok (.iaload, 1) := dk_46 (dk_at dksX10_count_3 4 rfl rfl)
theorem dX10_count_139 : decode cX10_count 139 = .ok (.ireturn, 1) := dk_172 (dk_at dksX10_count_3 5 rfl rfl)
theorem dX10_count_140 : decode cX10_count 140 = .ok (.aload_n 0, 1) := dk_42 (dk_at dksX10_count_3 6 rfl rfl)
theorem dX10_count_141 : decode cX10_count 141 = .ok (.getfield 59, 3) := dk_180 0 59 (dk_at dksX10_count_3 7 rfl rfl)
theorem dX10_count_144 : decode cX10_count 144 = .ok (.bipush 31, 2) := dk_16 31 (dk_at dksX10_count_3 10 rfl rfl)
theorem dX10_count_146 : decode cX10_count 146 = .ok (.iaload, 1) := dk_46 (dk_at dksX10_count_3 12 rfl rfl)
theorem dX10_count_147 : decode cX10_count 147 = .ok (.ireturn, 1) := dk_172 (dk_at dksX10_count_3 13 rfl rfl)
theorem dX10_count_148 : decode cX10_count 148 = .ok (.aload_n 0, 1) := dk_42 (dk_at dksX10_count_3 14 rfl rfl)
theorem dX10_count_149 : decode cX10_count 149 = .ok (.getfield 59, 3) := dk_180 0 59 (dk_at dksX10_count_3 15 rfl rfl)
theorem dX10_count_152 : decode cX10_count 152 = .ok (.iconst 4, 1) := dk_7 (dk_at dksX10_count_3 18 rfl rfl)
theorem dX10_count_153 : decode cX10_count 153 = .ok (.iaload, 1) := dk_46 (dk_at dksX10_count_3 19 rfl rfl)
theorem dX10_count_154 : decode cX10_count 154 = .ok (.ireturn, 1) := dk_172 (dk_at dksX10_count_3 20 rfl rfl)
theorem dX10_count_155 : decode cX10_count 155 = .ok (.aload_n 0, 1) := dk_42 (dk_at dksX10_count_3 21 rfl rfl)
theorem dX10_count_156 : decode cX10_count 156 = .ok (.getfield 59, 3) := dk_180 0 59 (dk_at dksX10_count_4 0 rfl rfl)
theorem dX10_count_159 : decode cX10_count 159 = .ok (.iconst 5, 1) := dk_8 (dk_at dksX10_count_4 3 rfl rfl)
theorem dX10_count_160 : decode cX10_count 160 = .ok (.iaload, 1) := dk_46 (dk_at dksX10_count_4 4 rfl rfl)
theorem dX10_count_161 : decode cX10_count 161 = .ok (.ireturn, 1) := dk_172 (dk_at dksX10_count_4 5 rfl rfl)
theorem dX10_count_162 : decode cX10_count 162 = .ok (.aload_n 0, 1) := dk_42 (dk_at dksX10_count_4 6 rfl rfl)
theorem dX10_count_163 : decode cX10_count 163 = .ok (.getfield 59, 3) := dk_180 0 59 (dk_at dksX10_count_4 7 rfl rfl)
theorem dX10_count_166 : decode cX10_count 166 = .ok (.bipush 6, 2) := dk_16 6 (dk_at dksX10_count_4 10 rfl rfl)
theorem dX10_count_168 : decode cX10_count 168 = .ok (.iaload, 1) := dk_46 (dk_at dksX10_count_4 12 rfl rfl)
theorem dX10_count_169 : decode cX10_count 169 = .ok (.ireturn, 1) := dk_172 (dk_at dksX10_count_4 13 rfl rfl)
theorem dX10_count_170 : decode cX10_count 170 = .ok (.aload_n 0, 1) := dk_42 (dk_at dksX10_count_4 14 rfl rfl)
theorem dX10_count_171 : decode cX10_count 171 = .ok (.getfield 59, 3) := dk_180 0 59 (dk_at dksX10_count_4 15 rfl rfl)
theorem dX10_count_174 : decode cX10_count 174 = .ok (.bipush 7, 2) := dk_16 7 (dk_at dksX10_count_4 18 rfl rfl)
theorem dX10_count_176 : decode cX10_count 176 = .ok (.iaload, 1) := dk_46 (dk_at dksX10_count_4 20 rfl rfl)
theorem dX10_count_177 : decode cX10_count 177 = .ok (.ireturn, 1) := dk_172 (dk_at dksX10_count_4 21 rfl rfl)
theorem dX10_count_178 : decode cX10_count 178 = .ok (.aload_n 0, 1) := dk_42 (dk_at dksX10_count_4 22 rfl rfl)
theorem dX10_count_179 : decode cX10_count 179 = .ok (.invokevirtual 325, 3) := dk_182 1 69 (dk_at dksX10_count_5 0 rfl rfl)
theorem dX10_count_182 : decode cX10_count 182 = .ok (.ireturn, 1) := dk_172 (dk_at dksX10_count_5 3 rfl rfl)
theorem dX10_count_183 : decode cX10_count 183 = .ok (.aload_n 0, 1) := dk_42 (dk_at dksX10_count_5 4 rfl rfl)
theorem dX10_count_184 : decode cX10_count 184 = .ok (.getfield 59, 3) := dk_180 0 59 (dk_at dksX10_count_5 5 rfl rfl)
theorem dX10_count_187 : decode cX10_count 187 = .ok (.bipush 8, 2) := dk_16 8 (dk_at dksX10_count_5 8 rfl rfl)
theorem dX10_count_189 : decode cX10_count 189 = .ok (.iaload, 1) := dk_46 (dk_at dksX10_count_5 10 rfl rfl)
theorem dX10_count_190 : decode cX10_count 190 = .ok (.ireturn, 1) := dk_172 (dk_at dksX10_count_5 11 rfl rfl)
theorem dX10_count_191 : decode cX10_count 191 = .ok (.aload_n 0, 1) := dk_42 (dk_at dksX10_count_5 12 rfl rfl)
theorem dX10_count_192 : decode cX10_count 192 = .ok (.getfield 59, 3) := dk_180 0 59 (dk_at dksX10_count_5 13 rfl rfl)
theorem dX10_count_195 : decode cX10_count 195 = .ok (.bipush 9, 2) := dk_16 9 (dk_at dksX10_count_5 16 rfl rfl)
theorem dX10_count_197 : decode cX10_count 197 = .ok (.iaload, 1) := dk_46 (dk_at dksX10_count_5 18 rfl rfl)
theorem dX10_count_198 : decode cX10_count 198 = .ok (.ireturn, 1) := dk_172 (dk_at dksX10_count_5 19 rfl rfl)
theorem dX10_count_199 : decode cX10_count 199 = .ok (.aload_n 0, 1) := dk_42 (dk_at dksX10_count_5 20 rfl rfl)
theorem dX10_count_200 : decode cX10_count 200 = .ok (.getfield 59, 3) := dk_180 0 59 (dk_at dksX10_count_5 21 rfl rfl)
theorem dX10_count_203 : decode cX10_count 203 = .ok (.bipush 10, 2) := dk_16 10 (dk_at dksX10_count_6 0 rfl rfl)
theorem dX10_count_205 : decode cX10_count 205 = .ok (.iaload, 1) := dk_46 (dk_at dksX10_count_6 2 rfl rfl)
theorem dX10_count_206 : decode cX10_count 206 = .ok (.ireturn, 1) := dk_172 (dk_at dksX10_count_6 3 rfl rfl)
theorem dX10_count_207 : decode cX10_count 207 = .ok (.aload_n 0, 1) := dk_42 (dk_at dksX10_count_6 4 rfl rfl)
theorem dX10_count_208 : decode cX10_count 208 = .ok (.invokevirtual 352, 3) := dk_182 1 96 (dk_at dksX10_count_6 5 rfl rfl)
theorem dX10_count_211 : decode cX10_count 211 = .ok (.ireturn, 1) := dk_172 (dk_at dksX10_count_6 8 rfl rfl)
theorem dX10_count_212 : decode cX10_count 212 = .ok (.aload_n 0, 1) := dk_42 (dk_at dksX10_count_6 9 rfl rfl)
theorem dX10_count_213 : decode cX10_count 213 = .ok (.getfield 59, 3) := dk_180 0 59 (dk_at dksX10_count_6 10 rfl rfl)
theorem dX10_count_216 : decode cX10_count 216 = .ok (.bipush 12, 2) := dk_16 12 (dk_at dksX10_count_6 13 rfl rfl)
theorem dX10_count_218 : decode cX10_count 218 = .ok (.iaload, 1) := dk_46 (dk_at dksX10_count_6 15 rfl rfl)
theorem dX10_count_219 : decode cX10_count 219 = .ok (.ireturn, 1) := dk_172 (dk_at dksX10_count_6 16 rfl rfl)
theorem dX10_count_220 : decode cX10_count 220 = .ok (.aload_n 0, 1) := dk_42 (dk_at dksX10_count_6 17 rfl rfl)
theorem dX10_count_221 : decode cX10_count 221 = .ok (.getfield 59, 3) := dk_180 0 59 (dk_at dksX10_count_6 18 rfl rfl)
theorem dX10_count_224 : decode cX10_count 224 = .ok (.bipush 13, 2) := dk_16 13 (dk_at dksX10_count_6 21 rfl rfl)
theorem dX10_count_226 : decode cX10_count 226 = .ok (.iaload, 1) := dk_46 (dk_at dksX10_count_6 23 rfl rfl)
theorem dX10_count_227 : decode cX10_count 227 = .ok (.ireturn, 1) := dk_172 (dk_at dksX10_count_7 0 rfl rfl)
theorem dX10_count_228 : decode cX10_count 228 = .ok (.aload_n 0, 1) := dk_42 (dk_at dksX10_count_7 1 rfl rfl)
theorem dX10_count_229 : decode cX10_count 229 = .ok (.invokevirtual 355, 3) := dk_182 1 99 (dk_at dksX10_count_7 2 rfl rfl)
theorem dX10_count_232 : decode cX10_count 232 = .ok (.ireturn, 1) := dk_172 (dk_at dksX10_count_7 5 rfl rfl)
theorem dX10_count_233 : decode cX10_count 233 = .ok (.aload_n 0, 1) := dk_42 (dk_at dksX10_count_7 6 rfl rfl)
theorem dX10_count_234 : decode cX10_count 234 = .ok (.getfield 278, 3) := dk_180 1 22 (dk_at dksX10_count_7 7 rfl rfl)
theorem dX10_count_237 : decode cX10_count 237 = .ok (.ireturn, 1) := dk_172 (dk_at dksX10_count_7 10 rfl rfl)
theorem dX10_count_238 : decode cX10_count 238 = .ok (.aload_n 0, 1) := dk_42 (dk_at dksX10_count_7 11 rfl rfl)
theorem dX10_count_239 : decode cX10_count 239 = .ok (.getfield 281, 3) := dk_180 1 25 (dk_at dksX10_count_7 12 rfl rfl)
theorem dX10_count_242 : decode cX10_count 242 = .ok (.ireturn, 1) := dk_172 (dk_at dksX10_count_7 15 rfl rfl)
theorem dX10_count_243 : decode cX10_count 243 = .ok (.aload_n 0, 1) := dk_42 (dk_at dksX10_count_7 16 rfl rfl)
theorem dX10_count_244 : decode cX10_count 244 = .ok (.getfield 133, 3) := dk_180 0 133 (dk_at dksX10_count_7 17 rfl rfl)
theorem dX10_count_247 : decode cX10_count 247 = .ok (.ireturn, 1) := dk_172 (dk_at dksX10_count_7 20 rfl rfl)
theorem dX10_count_248 : decode cX10_count 248 = .ok (.aload_n 0, 1) := dk_42 (dk_at dksX10_count_7 21 rfl rfl)
theorem dX10_count_249 : decode cX10_count 249 = .ok (.getfield 56, 3) := dk_180 0 56 (dk_at dksX10_count_8 0 rfl rfl)
theorem dX10_count_252 : decode cX10_count 252 = .ok (.iload_n 1, 1) := dk_27 (dk_at dksX10_count_8 3 rfl rfl)
theorem dX10_count_253 : decode cX10_count 253 = .ok (.bipush 20, 2) := dk_16 20 (dk_at dksX10_count_8 4 rfl rfl)
theorem dX10_count_255 : decode cX10_count 255 = .ok (.isub, 1) := dk_100 (dk_at dksX10_count_8 6 rfl rfl)
theorem dX10_count_256 : decode cX10_count 256 = .ok (.iaload, 1) := dk_46 (dk_at dksX10_count_8 7 rfl rfl)
theorem dX10_count_257 : decode cX10_count 257 = .ok (.ireturn, 1) := dk_172 (dk_at dksX10_count_8 8 rfl rfl)
theorem dX10_count_258 : decode cX10_count 258 = .ok (.aload_n 0, 1) := dk_42 (dk_at dksX10_count_8 9 rfl rfl)
theorem dX10_count_259 : decode cX10_count 259 = .ok (.iconst 1, 1) := dk_4 (dk_at dksX10_count_8 10 rfl rfl)
theorem dX10_count_260 : decode cX10_count 260 = .ok (.invokevirtual 250, 3) := dk_182 0 250 (dk_at dksX10_count_8 11 rfl rfl)
theorem dX10_count_263 : decode cX10_count 263 = .ok (.ireturn, 1) := dk_172 (dk_at dksX10_count_8 14 rfl rfl)
abbrev cX10_levelNow : ByteArray := prog_22_method_46_code
def yX10_levelNow : MethodName := ⟨RX10, "levelNow", "()I"⟩
def dkwX10_levelNow_4 : List UInt8 := [104, 42, 180, 0, 59, 16, 14, 46, 100, 172]
abbrev dktX10_levelNow_4 : List UInt8 := dkwX10_levelNow_4 ++ []
def dkwX10_levelNow_3 : List UInt8 := [132, 3, 1, 167, 255, 194, 27, 2, 160, 0, 7, 3, 167, 0, 21, 27, 4, 96, 42, 180, 0, 44, 3, 46]
abbrev dktX10_levelNow_3 : List UInt8 := dkwX10_levelNow_3 ++ dktX10_levelNow_4
def dkwX10_levelNow_2 : List UInt8 := [29, 96, 46, 28, 161, 0, 18, 27, 42, 180, 0, 59, 17, 0, 217, 29, 96, 46, 184, 0, 130, 60]
abbrev dktX10_levelNow_2 : List UInt8 := dkwX10_levelNow_2 ++ dktX10_levelNow_3
def dkwX10_levelNow_1 : List UInt8 := [153, 0, 52, 42, 180, 0, 59, 17, 0, 153, 29, 96, 46, 2, 159, 0, 32, 42, 180, 0, 59, 17, 0, 217]
abbrev dktX10_levelNow_1 : List UInt8 := dkwX10_levelNow_1 ++ dktX10_levelNow_2
def dkwX10_levelNow_0 : List UInt8 := [2, 60, 42, 182, 1, 62, 61, 3, 62, 29, 16, 64, 162, 0, 62, 42, 180, 0, 59, 16, 8, 46]
abbrev dktX10_levelNow_0 : List UInt8 := dkwX10_levelNow_0 ++ dktX10_levelNow_1
theorem dksX10_levelNow_0 : cX10_levelNow.data.toList.drop 0 = dktX10_levelNow_0 := by decide +kernel
theorem dksX10_levelNow_1 : cX10_levelNow.data.toList.drop 22 = dktX10_levelNow_1 := dk_seg dksX10_levelNow_0 22 rfl rfl
theorem dksX10_levelNow_2 : cX10_levelNow.data.toList.drop 46 = dktX10_levelNow_2 := dk_seg dksX10_levelNow_1 24 rfl rfl
theorem dksX10_levelNow_3 : cX10_levelNow.data.toList.drop 68 = dktX10_levelNow_3 := dk_seg dksX10_levelNow_2 22 rfl rfl
theorem dksX10_levelNow_4 : cX10_levelNow.data.toList.drop 92 = dktX10_levelNow_4 := dk_seg dksX10_levelNow_3 24 rfl rfl
theorem dX10_levelNow_0 : decode cX10_levelNow 0 = .ok (.iconst (-1), 1) := dk_2 (dk_at dksX10_levelNow_0 0 rfl rfl)
theorem dX10_levelNow_1 : decode cX10_levelNow 1 = .ok (.istore_n 1, 1) := dk_60 (dk_at dksX10_levelNow_0 1 rfl rfl)
theorem dX10_levelNow_2 : decode cX10_levelNow 2 = .ok (.aload_n 0, 1) := dk_42 (dk_at dksX10_levelNow_0 2 rfl rfl)
theorem dX10_levelNow_3 : decode cX10_levelNow 3 = .ok (.invokevirtual 318, 3) := dk_182 1 62 (dk_at dksX10_levelNow_0 3 rfl rfl)
theorem dX10_levelNow_6 : decode cX10_levelNow 6 = .ok (.istore_n 2, 1) := dk_61 (dk_at dksX10_levelNow_0 6 rfl rfl)
theorem dX10_levelNow_7 : decode cX10_levelNow 7 = .ok (.iconst 0, 1) := dk_3 (dk_at dksX10_levelNow_0 7 rfl rfl)
theorem dX10_levelNow_8 : decode cX10_levelNow 8 = .ok (.istore_n 3, 1) := dk_62 (dk_at dksX10_levelNow_0 8 rfl rfl)
theorem dX10_levelNow_9 : decode cX10_levelNow 9 = .ok (.iload_n 3, 1) := dk_29 (dk_at dksX10_levelNow_0 9 rfl rfl)
theorem dX10_levelNow_10 : decode cX10_levelNow 10 = .ok (.bipush 64, 2) := dk_16 64 (dk_at dksX10_levelNow_0 10 rfl rfl)
theorem dX10_levelNow_12 : decode cX10_levelNow 12 = .ok (.if_icmp .ge 62, 3) := dk_162 0 62 (dk_at dksX10_levelNow_0 12 rfl rfl)
theorem dX10_levelNow_15 : decode cX10_levelNow 15 = .ok (.aload_n 0, 1) := dk_42 (dk_at dksX10_levelNow_0 15 rfl rfl)
theorem dX10_levelNow_16 : decode cX10_levelNow 16 = .ok (.getfield 59, 3) := dk_180 0 59 (dk_at dksX10_levelNow_0 16 rfl rfl)
theorem dX10_levelNow_19 : decode cX10_levelNow 19 = .ok (.bipush 8, 2) := dk_16 8 (dk_at dksX10_levelNow_0 19 rfl rfl)
theorem dX10_levelNow_21 : decode cX10_levelNow 21 = .ok (.iaload, 1) := dk_46 (dk_at dksX10_levelNow_0 21 rfl rfl)
theorem dX10_levelNow_22 : decode cX10_levelNow 22 = .ok (.ifCond .eq 52, 3) := dk_153 0 52 (dk_at dksX10_levelNow_1 0 rfl rfl)
theorem dX10_levelNow_25 : decode cX10_levelNow 25 = .ok (.aload_n 0, 1) := dk_42 (dk_at dksX10_levelNow_1 3 rfl rfl)
theorem dX10_levelNow_26 : decode cX10_levelNow 26 = .ok (.getfield 59, 3) := dk_180 0 59 (dk_at dksX10_levelNow_1 4 rfl rfl)
theorem dX10_levelNow_29 : decode cX10_levelNow 29 = .ok (.sipush 153, 3) := dk_17 0 153 (dk_at dksX10_levelNow_1 7 rfl rfl)
theorem dX10_levelNow_32 : decode cX10_levelNow 32 = .ok (.iload_n 3, 1) := dk_29 (dk_at dksX10_levelNow_1 10 rfl rfl)
theorem dX10_levelNow_33 : decode cX10_levelNow 33 = .ok (.iadd, 1) := dk_96 (dk_at dksX10_levelNow_1 11 rfl rfl)
theorem dX10_levelNow_34 : decode cX10_levelNow 34 = .ok (.iaload, 1) := dk_46 (dk_at dksX10_levelNow_1 12 rfl rfl)
theorem dX10_levelNow_35 : decode cX10_levelNow 35 = .ok (.iconst (-1), 1) := dk_2 (dk_at dksX10_levelNow_1 13 rfl rfl)
theorem dX10_levelNow_36 : decode cX10_levelNow 36 = .ok (.if_icmp .eq 32, 3) := dk_159 0 32 (dk_at dksX10_levelNow_1 14 rfl rfl)
theorem dX10_levelNow_39 : decode cX10_levelNow 39 = .ok (.aload_n 0, 1) := dk_42 (dk_at dksX10_levelNow_1 17 rfl rfl)
theorem dX10_levelNow_40 : decode cX10_levelNow 40 = .ok (.getfield 59, 3) := dk_180 0 59 (dk_at dksX10_levelNow_1 18 rfl rfl)
theorem dX10_levelNow_43 : decode cX10_levelNow 43 = .ok (.sipush 217, 3) := dk_17 0 217 (dk_at dksX10_levelNow_1 21 rfl rfl)
theorem dX10_levelNow_46 : decode cX10_levelNow 46 = .ok (.iload_n 3, 1) := dk_29 (dk_at dksX10_levelNow_2 0 rfl rfl)
theorem dX10_levelNow_47 : decode cX10_levelNow 47 = .ok (.iadd, 1) := dk_96 (dk_at dksX10_levelNow_2 1 rfl rfl)
theorem dX10_levelNow_48 : decode cX10_levelNow 48 = .ok (.iaload, 1) := dk_46 (dk_at dksX10_levelNow_2 2 rfl rfl)
theorem dX10_levelNow_49 : decode cX10_levelNow 49 = .ok (.iload_n 2, 1) := dk_28 (dk_at dksX10_levelNow_2 3 rfl rfl)
theorem dX10_levelNow_50 : decode cX10_levelNow 50 = .ok (.if_icmp .lt 18, 3) := dk_161 0 18 (dk_at dksX10_levelNow_2 4 rfl rfl)
theorem dX10_levelNow_53 : decode cX10_levelNow 53 = .ok (.iload_n 1, 1) := dk_27 (dk_at dksX10_levelNow_2 7 rfl rfl)
theorem dX10_levelNow_54 : decode cX10_levelNow 54 = .ok (.aload_n 0, 1) := dk_42 (dk_at dksX10_levelNow_2 8 rfl rfl)
theorem dX10_levelNow_55 : decode cX10_levelNow 55 = .ok (.getfield 59, 3) := dk_180 0 59 (dk_at dksX10_levelNow_2 9 rfl rfl)
theorem dX10_levelNow_58 : decode cX10_levelNow 58 = .ok (.sipush 217, 3) := dk_17 0 217 (dk_at dksX10_levelNow_2 12 rfl rfl)
theorem dX10_levelNow_61 : decode cX10_levelNow 61 = .ok (.iload_n 3, 1) := dk_29 (dk_at dksX10_levelNow_2 15 rfl rfl)
theorem dX10_levelNow_62 : decode cX10_levelNow 62 = .ok (.iadd, 1) := dk_96 (dk_at dksX10_levelNow_2 16 rfl rfl)
theorem dX10_levelNow_63 : decode cX10_levelNow 63 = .ok (.iaload, 1) := dk_46 (dk_at dksX10_levelNow_2 17 rfl rfl)
theorem dX10_levelNow_64 : decode cX10_levelNow 64 = .ok (.invokestatic 130, 3) := dk_184 0 130 (dk_at dksX10_levelNow_2 18 rfl rfl)
theorem dX10_levelNow_67 : decode cX10_levelNow 67 = .ok (.istore_n 1, 1) := dk_60 (dk_at dksX10_levelNow_2 21 rfl rfl)
theorem dX10_levelNow_68 : decode cX10_levelNow 68 = .ok (.iinc 3 1, 3) := dk_132 3 1 (dk_at dksX10_levelNow_3 0 rfl rfl)
theorem dX10_levelNow_71 : decode cX10_levelNow 71 = .ok (.goto (-62), 3) := dk_167 255 194 (dk_at dksX10_levelNow_3 3 rfl rfl)
theorem dX10_levelNow_74 : decode cX10_levelNow 74 = .ok (.iload_n 1, 1) := dk_27 (dk_at dksX10_levelNow_3 6 rfl rfl)
theorem dX10_levelNow_75 : decode cX10_levelNow 75 = .ok (.iconst (-1), 1) := dk_2 (dk_at dksX10_levelNow_3 7 rfl rfl)
theorem dX10_levelNow_76 : decode cX10_levelNow 76 = .ok (.if_icmp .ne 7, 3) := dk_160 0 7 (dk_at dksX10_levelNow_3 8 rfl rfl)
theorem dX10_levelNow_79 : decode cX10_levelNow 79 = .ok (.iconst 0, 1) := dk_3 (dk_at dksX10_levelNow_3 11 rfl rfl)
theorem dX10_levelNow_80 : decode cX10_levelNow 80 = .ok (.goto 21, 3) := dk_167 0 21 (dk_at dksX10_levelNow_3 12 rfl rfl)
theorem dX10_levelNow_83 : decode cX10_levelNow 83 = .ok (.iload_n 1, 1) := dk_27 (dk_at dksX10_levelNow_3 15 rfl rfl)
theorem dX10_levelNow_84 : decode cX10_levelNow 84 = .ok (.iconst 1, 1) := dk_4 (dk_at dksX10_levelNow_3 16 rfl rfl)
theorem dX10_levelNow_85 : decode cX10_levelNow 85 = .ok (.iadd, 1) := dk_96 (dk_at dksX10_levelNow_3 17 rfl rfl)
theorem dX10_levelNow_86 : decode cX10_levelNow 86 = .ok (.aload_n 0, 1) := dk_42 (dk_at dksX10_levelNow_3 18 rfl rfl)
theorem dX10_levelNow_87 : decode cX10_levelNow 87 = .ok (.getfield 44, 3) := dk_180 0 44 (dk_at dksX10_levelNow_3 19 rfl rfl)
theorem dX10_levelNow_90 : decode cX10_levelNow 90 = .ok (.iconst 0, 1) := dk_3 (dk_at dksX10_levelNow_3 22 rfl rfl)
theorem dX10_levelNow_91 : decode cX10_levelNow 91 = .ok (.iaload, 1) := dk_46 (dk_at dksX10_levelNow_3 23 rfl rfl)
theorem dX10_levelNow_92 : decode cX10_levelNow 92 = .ok (.imul, 1) := dk_104 (dk_at dksX10_levelNow_4 0 rfl rfl)
theorem dX10_levelNow_93 : decode cX10_levelNow 93 = .ok (.aload_n 0, 1) := dk_42 (dk_at dksX10_levelNow_4 1 rfl rfl)
theorem dX10_levelNow_94 : decode cX10_levelNow 94 = .ok (.getfield 59, 3) := dk_180 0 59 (dk_at dksX10_levelNow_4 2 rfl rfl)
theorem dX10_levelNow_97 : decode cX10_levelNow 97 = .ok (.bipush 14, 2) := dk_16 14 (dk_at dksX10_levelNow_4 5 rfl rfl)
theorem dX10_levelNow_99 : decode cX10_levelNow 99 = .ok (.iaload, 1) := dk_46 (dk_at dksX10_levelNow_4 7 rfl rfl)
theorem dX10_levelNow_100 : decode cX10_levelNow 100 = .ok (.isub, 1) := dk_100 (dk_at dksX10_levelNow_4 8 rfl rfl)
theorem dX10_levelNow_101 : decode cX10_levelNow 101 = .ok (.ireturn, 1) := dk_172 (dk_at dksX10_levelNow_4 9 rfl rfl)
abbrev cX10_spotNow : ByteArray := prog_22_method_42_code
def yX10_spotNow : MethodName := ⟨RX10, "spotNow", "()I"⟩
def dkwX10_spotNow_0 : List UInt8 := [42, 180, 0, 59, 16, 14, 46, 42, 180, 0, 44, 3, 46, 108, 172]
abbrev dktX10_spotNow_0 : List UInt8 := dkwX10_spotNow_0 ++ []
theorem dksX10_spotNow_0 : cX10_spotNow.data.toList.drop 0 = dktX10_spotNow_0 := by decide +kernel
theorem dX10_spotNow_0 : decode cX10_spotNow 0 = .ok (.aload_n 0, 1) := dk_42 (dk_at dksX10_spotNow_0 0 rfl rfl)
theorem dX10_spotNow_1 : decode cX10_spotNow 1 = .ok (.getfield 59, 3) := dk_180 0 59 (dk_at dksX10_spotNow_0 1 rfl rfl)
theorem dX10_spotNow_4 : decode cX10_spotNow 4 = .ok (.bipush 14, 2) := dk_16 14 (dk_at dksX10_spotNow_0 4 rfl rfl)
theorem dX10_spotNow_6 : decode cX10_spotNow 6 = .ok (.iaload, 1) := dk_46 (dk_at dksX10_spotNow_0 6 rfl rfl)
theorem dX10_spotNow_7 : decode cX10_spotNow 7 = .ok (.aload_n 0, 1) := dk_42 (dk_at dksX10_spotNow_0 7 rfl rfl)
theorem dX10_spotNow_8 : decode cX10_spotNow 8 = .ok (.getfield 44, 3) := dk_180 0 44 (dk_at dksX10_spotNow_0 8 rfl rfl)
theorem dX10_spotNow_11 : decode cX10_spotNow 11 = .ok (.iconst 0, 1) := dk_3 (dk_at dksX10_spotNow_0 11 rfl rfl)
theorem dX10_spotNow_12 : decode cX10_spotNow 12 = .ok (.iaload, 1) := dk_46 (dk_at dksX10_spotNow_0 12 rfl rfl)
theorem dX10_spotNow_13 : decode cX10_spotNow 13 = .ok (.idiv, 1) := dk_108 (dk_at dksX10_spotNow_0 13 rfl rfl)
theorem dX10_spotNow_14 : decode cX10_spotNow 14 = .ok (.ireturn, 1) := dk_172 (dk_at dksX10_spotNow_0 14 rfl rfl)
abbrev cX10_regained : ByteArray := prog_22_method_54_code
def yX10_regained : MethodName := ⟨RX10, "regained", "()I"⟩
def dkwX10_regained_2 : List UInt8 := [180, 0, 59, 16, 20, 46, 108, 17, 3, 232, 100, 172]
abbrev dktX10_regained_2 : List UInt8 := dkwX10_regained_2 ++ []
def dkwX10_regained_1 : List UInt8 := [167, 0, 33, 17, 3, 232, 42, 180, 0, 44, 3, 46, 104, 42, 180, 0, 59, 16, 21, 46, 104, 42]
abbrev dktX10_regained_1 : List UInt8 := dkwX10_regained_1 ++ dktX10_regained_2
def dkwX10_regained_0 : List UInt8 := [42, 180, 0, 59, 16, 8, 46, 153, 0, 13, 42, 180, 0, 59, 16, 20, 46, 154, 0, 9, 17, 39, 16]
abbrev dktX10_regained_0 : List UInt8 := dkwX10_regained_0 ++ dktX10_regained_1
theorem dksX10_regained_0 : cX10_regained.data.toList.drop 0 = dktX10_regained_0 := by decide +kernel
theorem dksX10_regained_1 : cX10_regained.data.toList.drop 23 = dktX10_regained_1 := dk_seg dksX10_regained_0 23 rfl rfl
theorem dksX10_regained_2 : cX10_regained.data.toList.drop 45 = dktX10_regained_2 := dk_seg dksX10_regained_1 22 rfl rfl
theorem dX10_regained_0 : decode cX10_regained 0 = .ok (.aload_n 0, 1) := dk_42 (dk_at dksX10_regained_0 0 rfl rfl)
theorem dX10_regained_1 : decode cX10_regained 1 = .ok (.getfield 59, 3) := dk_180 0 59 (dk_at dksX10_regained_0 1 rfl rfl)
theorem dX10_regained_4 : decode cX10_regained 4 = .ok (.bipush 8, 2) := dk_16 8 (dk_at dksX10_regained_0 4 rfl rfl)
theorem dX10_regained_6 : decode cX10_regained 6 = .ok (.iaload, 1) := dk_46 (dk_at dksX10_regained_0 6 rfl rfl)
theorem dX10_regained_7 : decode cX10_regained 7 = .ok (.ifCond .eq 13, 3) := dk_153 0 13 (dk_at dksX10_regained_0 7 rfl rfl)
theorem dX10_regained_10 : decode cX10_regained 10 = .ok (.aload_n 0, 1) := dk_42 (dk_at dksX10_regained_0 10 rfl rfl)
theorem dX10_regained_11 : decode cX10_regained 11 = .ok (.getfield 59, 3) := dk_180 0 59 (dk_at dksX10_regained_0 11 rfl rfl)
theorem dX10_regained_14 : decode cX10_regained 14 = .ok (.bipush 20, 2) := dk_16 20 (dk_at dksX10_regained_0 14 rfl rfl)
theorem dX10_regained_16 : decode cX10_regained 16 = .ok (.iaload, 1) := dk_46 (dk_at dksX10_regained_0 16 rfl rfl)
theorem dX10_regained_17 : decode cX10_regained 17 = .ok (.ifCond .ne 9, 3) := dk_154 0 9 (dk_at dksX10_regained_0 17 rfl rfl)
theorem dX10_regained_20 : decode cX10_regained 20 = .ok (.sipush 10000, 3) := dk_17 39 16 (dk_at dksX10_regained_0 20 rfl rfl)
theorem dX10_regained_23 : decode cX10_regained 23 = .ok (.goto 33, 3) := dk_167 0 33 (dk_at dksX10_regained_1 0 rfl rfl)
theorem dX10_regained_26 : decode cX10_regained 26 = .ok (.sipush 1000, 3) := dk_17 3 232 (dk_at dksX10_regained_1 3 rfl rfl)
theorem dX10_regained_29 : decode cX10_regained 29 = .ok (.aload_n 0, 1) := dk_42 (dk_at dksX10_regained_1 6 rfl rfl)
theorem dX10_regained_30 : decode cX10_regained 30 = .ok (.getfield 44, 3) := dk_180 0 44 (dk_at dksX10_regained_1 7 rfl rfl)
theorem dX10_regained_33 : decode cX10_regained 33 = .ok (.iconst 0, 1) := dk_3 (dk_at dksX10_regained_1 10 rfl rfl)
theorem dX10_regained_34 : decode cX10_regained 34 = .ok (.iaload, 1) := dk_46 (dk_at dksX10_regained_1 11 rfl rfl)
theorem dX10_regained_35 : decode cX10_regained 35 = .ok (.imul, 1) := dk_104 (dk_at dksX10_regained_1 12 rfl rfl)
theorem dX10_regained_36 : decode cX10_regained 36 = .ok (.aload_n 0, 1) := dk_42 (dk_at dksX10_regained_1 13 rfl rfl)
theorem dX10_regained_37 : decode cX10_regained 37 = .ok (.getfield 59, 3) := dk_180 0 59 (dk_at dksX10_regained_1 14 rfl rfl)
theorem dX10_regained_40 : decode cX10_regained 40 = .ok (.bipush 21, 2) := dk_16 21 (dk_at dksX10_regained_1 17 rfl rfl)
theorem dX10_regained_42 : decode cX10_regained 42 = .ok (.iaload, 1) := dk_46 (dk_at dksX10_regained_1 19 rfl rfl)
theorem dX10_regained_43 : decode cX10_regained 43 = .ok (.imul, 1) := dk_104 (dk_at dksX10_regained_1 20 rfl rfl)
theorem dX10_regained_44 : decode cX10_regained 44 = .ok (.aload_n 0, 1) := dk_42 (dk_at dksX10_regained_1 21 rfl rfl)
theorem dX10_regained_45 : decode cX10_regained 45 = .ok (.getfield 59, 3) := dk_180 0 59 (dk_at dksX10_regained_2 0 rfl rfl)
theorem dX10_regained_48 : decode cX10_regained 48 = .ok (.bipush 20, 2) := dk_16 20 (dk_at dksX10_regained_2 3 rfl rfl)
theorem dX10_regained_50 : decode cX10_regained 50 = .ok (.iaload, 1) := dk_46 (dk_at dksX10_regained_2 5 rfl rfl)
theorem dX10_regained_51 : decode cX10_regained 51 = .ok (.idiv, 1) := dk_108 (dk_at dksX10_regained_2 6 rfl rfl)
theorem dX10_regained_52 : decode cX10_regained 52 = .ok (.sipush 1000, 3) := dk_17 3 232 (dk_at dksX10_regained_2 7 rfl rfl)
theorem dX10_regained_55 : decode cX10_regained 55 = .ok (.isub, 1) := dk_100 (dk_at dksX10_regained_2 10 rfl rfl)
theorem dX10_regained_56 : decode cX10_regained 56 = .ok (.ireturn, 1) := dk_172 (dk_at dksX10_regained_2 11 rfl rfl)
abbrev cX10_samplesKept : ByteArray := prog_22_method_55_code
def yX10_samplesKept : MethodName := ⟨RX10, "samplesKept", "()I"⟩
def dkwX10_samplesKept_0 : List UInt8 := [17, 0, 128, 42, 180, 0, 59, 16, 32, 46, 184, 0, 124, 172]
abbrev dktX10_samplesKept_0 : List UInt8 := dkwX10_samplesKept_0 ++ []
theorem dksX10_samplesKept_0 : cX10_samplesKept.data.toList.drop 0 = dktX10_samplesKept_0 := by decide +kernel
theorem dX10_samplesKept_0 : decode cX10_samplesKept 0 = .ok (.sipush 128, 3) := dk_17 0 128 (dk_at dksX10_samplesKept_0 0 rfl rfl)
theorem dX10_samplesKept_3 : decode cX10_samplesKept 3 = .ok (.aload_n 0, 1) := dk_42 (dk_at dksX10_samplesKept_0 3 rfl rfl)
theorem dX10_samplesKept_4 : decode cX10_samplesKept 4 = .ok (.getfield 59, 3) := dk_180 0 59 (dk_at dksX10_samplesKept_0 4 rfl rfl)
theorem dX10_samplesKept_7 : decode cX10_samplesKept 7 = .ok (.bipush 32, 2) := dk_16 32 (dk_at dksX10_samplesKept_0 7 rfl rfl)
theorem dX10_samplesKept_9 : decode cX10_samplesKept 9 = .ok (.iaload, 1) := dk_46 (dk_at dksX10_samplesKept_0 9 rfl rfl)
theorem dX10_samplesKept_10 : decode cX10_samplesKept 10 = .ok (.invokestatic 124, 3) := dk_184 0 124 (dk_at dksX10_samplesKept_0 10 rfl rfl)
theorem dX10_samplesKept_13 : decode cX10_samplesKept 13 = .ok (.ireturn, 1) := dk_172 (dk_at dksX10_samplesKept_0 13 rfl rfl)
abbrev cX10_set : ByteArray := prog_22_method_58_code
def yX10_set : MethodName := ⟨RX10, "set", "(I)I"⟩
def dkwX10_set_7 : List UInt8 := [46, 172, 42, 4, 182, 0, 250, 172]
abbrev dktX10_set_7 : List UInt8 := dkwX10_set_7 ++ []
def dkwX10_set_6 : List UInt8 := [42, 180, 0, 59, 16, 14, 46, 16, 64, 42, 180, 0, 44, 3, 46, 104, 112, 172, 42, 180, 0, 59, 16, 11]
abbrev dktX10_set_6 : List UInt8 := dkwX10_set_6 ++ dktX10_set_7
def dkwX10_set_5 : List UInt8 := [42, 180, 0, 59, 16, 26, 46, 172, 42, 180, 0, 59, 16, 22, 46, 172, 42, 180, 0, 59, 16, 23, 46, 172]
abbrev dktX10_set_5 : List UInt8 := dkwX10_set_5 ++ dktX10_set_6
def dkwX10_set_4 : List UInt8 := [42, 180, 0, 44, 16, 7, 46, 172, 42, 180, 0, 59, 16, 28, 46, 172, 42, 180, 0, 59, 16, 25, 46, 172]
abbrev dktX10_set_4 : List UInt8 := dkwX10_set_4 ++ dktX10_set_5
def dkwX10_set_3 : List UInt8 := [172, 42, 180, 0, 44, 7, 46, 172, 42, 180, 0, 59, 16, 27, 46, 172, 42, 180, 0, 44, 16, 6, 46, 172]
abbrev dktX10_set_3 : List UInt8 := dkwX10_set_3 ++ dktX10_set_4
def dkwX10_set_2 : List UInt8 := [42, 180, 0, 44, 3, 46, 172, 42, 180, 0, 59, 16, 29, 46, 172, 42, 180, 1, 10, 172, 42, 180, 1, 13]
abbrev dktX10_set_2 : List UInt8 := dkwX10_set_2 ++ dktX10_set_3
def dkwX10_set_1 : List UInt8 := [170, 0, 0, 0, 0, 0, 197, 0, 0, 0, 0, 0, 0, 0, 14, 0, 0, 0, 75, 0, 0, 0, 82, 0, 0, 0, 90, 0, 0, 0, 95, 0, 0, 0, 100, 0, 0, 0, 107, 0, 0, 0, 115, 0, 0, 0, 123, 0, 0, 0, 131, 0, 0, 0, 139, 0, 0, 0, 147, 0, 0, 0, 155, 0, 0, 0, 163, 0, 0, 0, 171, 0, 0, 0, 189]
abbrev dktX10_set_1 : List UInt8 := dkwX10_set_1 ++ dktX10_set_2
def dkwX10_set_0 : List UInt8 := [42, 182, 0, 247, 27]
abbrev dktX10_set_0 : List UInt8 := dkwX10_set_0 ++ dktX10_set_1
theorem dksX10_set_0 : cX10_set.data.toList.drop 0 = dktX10_set_0 := by decide +kernel
theorem dksX10_set_1 : cX10_set.data.toList.drop 5 = dktX10_set_1 := dk_seg dksX10_set_0 5 rfl rfl
theorem dksX10_set_2 : cX10_set.data.toList.drop 80 = dktX10_set_2 := dk_seg dksX10_set_1 75 rfl rfl
theorem dksX10_set_3 : cX10_set.data.toList.drop 104 = dktX10_set_3 := dk_seg dksX10_set_2 24 rfl rfl
theorem dksX10_set_4 : cX10_set.data.toList.drop 128 = dktX10_set_4 := dk_seg dksX10_set_3 24 rfl rfl
theorem dksX10_set_5 : cX10_set.data.toList.drop 152 = dktX10_set_5 := dk_seg dksX10_set_4 24 rfl rfl
theorem dksX10_set_6 : cX10_set.data.toList.drop 176 = dktX10_set_6 := dk_seg dksX10_set_5 24 rfl rfl
theorem dksX10_set_7 : cX10_set.data.toList.drop 200 = dktX10_set_7 := dk_seg dksX10_set_6 24 rfl rfl
theorem dX10_set_0 : decode cX10_set 0 = .ok (.aload_n 0, 1) := dk_42 (dk_at dksX10_set_0 0 rfl rfl)
theorem dX10_set_1 : decode cX10_set 1 = .ok (.invokevirtual 247, 3) := dk_182 0 247 (dk_at dksX10_set_0 1 rfl rfl)
theorem dX10_set_4 : decode cX10_set 4 = .ok (.iload_n 1, 1) := dk_27 (dk_at dksX10_set_0 4 rfl rfl)
theorem dX10_set_5 : decode cX10_set 5 = .ok (.tableswitch 197 0 14 #[75, 82, 90, 95, 100, 107, 115, 123, 131, 139, 147, 155, 163, 171, 189], 75) := by decide +kernel
theorem dX10_set_80 : decode cX10_set 80 = .ok (.aload_n 0, 1) := dk_42 (dk_at dksX10_set_2 0 rfl rfl)
theorem dX10_set_81 : decode cX10_set 81 = .ok (.getfield 44, 3) := dk_180 0 44 (dk_at dksX10_set_2 1 rfl rfl)
theorem dX10_set_84 : decode cX10_set 84 = .ok (.iconst 0, 1) := dk_3 (dk_at dksX10_set_2 4 rfl rfl)
theorem dX10_set_85 : decode cX10_set 85 = .ok (.iaload, 1) := dk_46 (dk_at dksX10_set_2 5 rfl rfl)
theorem dX10_set_86 : decode cX10_set 86 = .ok (.ireturn, 1) := dk_172 (dk_at dksX10_set_2 6 rfl rfl)
theorem dX10_set_87 : decode cX10_set 87 = .ok (.aload_n 0, 1) := dk_42 (dk_at dksX10_set_2 7 rfl rfl)
theorem dX10_set_88 : decode cX10_set 88 = .ok (.getfield 59, 3) := dk_180 0 59 (dk_at dksX10_set_2 8 rfl rfl)
theorem dX10_set_91 : decode cX10_set 91 = .ok (.bipush 29, 2) := dk_16 29 (dk_at dksX10_set_2 11 rfl rfl)
theorem dX10_set_93 : decode cX10_set 93 = .ok (.iaload, 1) := dk_46 (dk_at dksX10_set_2 13 rfl rfl)
theorem dX10_set_94 : decode cX10_set 94 = .ok (.ireturn, 1) := dk_172 (dk_at dksX10_set_2 14 rfl rfl)
theorem dX10_set_95 : decode cX10_set 95 = .ok (.aload_n 0, 1) := dk_42 (dk_at dksX10_set_2 15 rfl rfl)
theorem dX10_set_96 : decode cX10_set 96 = .ok (.getfield 266, 3) := dk_180 1 10 (dk_at dksX10_set_2 16 rfl rfl)
theorem dX10_set_99 : decode cX10_set 99 = .ok (.ireturn, 1) := dk_172 (dk_at dksX10_set_2 19 rfl rfl)
theorem dX10_set_100 : decode cX10_set 100 = .ok (.aload_n 0, 1) := dk_42 (dk_at dksX10_set_2 20 rfl rfl)
theorem dX10_set_101 : decode cX10_set 101 = .ok (.getfield 269, 3) := dk_180 1 13 (dk_at dksX10_set_2 21 rfl rfl)
theorem dX10_set_104 : decode cX10_set 104 = .ok (.ireturn, 1) := dk_172 (dk_at dksX10_set_3 0 rfl rfl)
theorem dX10_set_105 : decode cX10_set 105 = .ok (.aload_n 0, 1) := dk_42 (dk_at dksX10_set_3 1 rfl rfl)
theorem dX10_set_106 : decode cX10_set 106 = .ok (.getfield 44, 3) := dk_180 0 44 (dk_at dksX10_set_3 2 rfl rfl)
theorem dX10_set_109 : decode cX10_set 109 = .ok (.iconst 4, 1) := dk_7 (dk_at dksX10_set_3 5 rfl rfl)
theorem dX10_set_110 : decode cX10_set 110 = .ok (.iaload, 1) := dk_46 (dk_at dksX10_set_3 6 rfl rfl)
theorem dX10_set_111 : decode cX10_set 111 = .ok (.ireturn, 1) := dk_172 (dk_at dksX10_set_3 7 rfl rfl)
theorem dX10_set_112 : decode cX10_set 112 = .ok (.aload_n 0, 1) := dk_42 (dk_at dksX10_set_3 8 rfl rfl)
theorem dX10_set_113 : decode cX10_set 113 = .ok (.getfield 59, 3) := dk_180 0 59 (dk_at dksX10_set_3 9 rfl rfl)
theorem dX10_set_116 : decode cX10_set 116 = .ok (.bipush 27, 2) := dk_16 27 (dk_at dksX10_set_3 12 rfl rfl)
theorem dX10_set_118 : decode cX10_set 118 = .ok (.iaload, 1) := dk_46 (dk_at dksX10_set_3 14 rfl rfl)
theorem dX10_set_119 : decode cX10_set 119 = .ok (.ireturn, 1) := dk_172 (dk_at dksX10_set_3 15 rfl rfl)
theorem dX10_set_120 : decode cX10_set 120 = .ok (.aload_n 0, 1) := dk_42 (dk_at dksX10_set_3 16 rfl rfl)
theorem dX10_set_121 : decode cX10_set 121 = .ok (.getfield 44, 3) := dk_180 0 44 (dk_at dksX10_set_3 17 rfl rfl)
theorem dX10_set_124 : decode cX10_set 124 = .ok (.bipush 6, 2) := dk_16 6 (dk_at dksX10_set_3 20 rfl rfl)
theorem dX10_set_126 : decode cX10_set 126 = .ok (.iaload, 1) := dk_46 (dk_at dksX10_set_3 22 rfl rfl)
theorem dX10_set_127 : decode cX10_set 127 = .ok (.ireturn, 1) := dk_172 (dk_at dksX10_set_3 23 rfl rfl)
theorem dX10_set_128 : decode cX10_set 128 = .ok (.aload_n 0, 1) := dk_42 (dk_at dksX10_set_4 0 rfl rfl)
theorem dX10_set_129 : decode cX10_set 129 = .ok (.getfield 44, 3) := dk_180 0 44 (dk_at dksX10_set_4 1 rfl rfl)
theorem dX10_set_132 : decode cX10_set 132 = .ok (.bipush 7, 2) := dk_16 7 (dk_at dksX10_set_4 4 rfl rfl)
theorem dX10_set_134 : decode cX10_set 134 = .ok (.iaload, 1) := dk_46 (dk_at dksX10_set_4 6 rfl rfl)
theorem dX10_set_135 : decode cX10_set 135 = .ok (.ireturn, 1) := dk_172 (dk_at dksX10_set_4 7 rfl rfl)
theorem dX10_set_136 : decode cX10_set 136 = .ok (.aload_n 0, 1) := dk_42 (dk_at dksX10_set_4 8 rfl rfl)
theorem dX10_set_137 : decode cX10_set 137 = .ok (.getfield 59, 3) := dk_180 0 59 (dk_at dksX10_set_4 9 rfl rfl)
theorem dX10_set_140 : decode cX10_set 140 = .ok (.bipush 28, 2) := dk_16 28 (dk_at dksX10_set_4 12 rfl rfl)
theorem dX10_set_142 : decode cX10_set 142 = .ok (.iaload, 1) := dk_46 (dk_at dksX10_set_4 14 rfl rfl)
theorem dX10_set_143 : decode cX10_set 143 = .ok (.ireturn, 1) := dk_172 (dk_at dksX10_set_4 15 rfl rfl)
theorem dX10_set_144 : decode cX10_set 144 = .ok (.aload_n 0, 1) := dk_42 (dk_at dksX10_set_4 16 rfl rfl)
theorem dX10_set_145 : decode cX10_set 145 = .ok (.getfield 59, 3) := dk_180 0 59 (dk_at dksX10_set_4 17 rfl rfl)
theorem dX10_set_148 : decode cX10_set 148 = .ok (.bipush 25, 2) := dk_16 25 (dk_at dksX10_set_4 20 rfl rfl)
theorem dX10_set_150 : decode cX10_set 150 = .ok (.iaload, 1) := dk_46 (dk_at dksX10_set_4 22 rfl rfl)
theorem dX10_set_151 : decode cX10_set 151 = .ok (.ireturn, 1) := dk_172 (dk_at dksX10_set_4 23 rfl rfl)
theorem dX10_set_152 : decode cX10_set 152 = .ok (.aload_n 0, 1) := dk_42 (dk_at dksX10_set_5 0 rfl rfl)
theorem dX10_set_153 : decode cX10_set 153 = .ok (.getfield 59, 3) := dk_180 0 59 (dk_at dksX10_set_5 1 rfl rfl)
theorem dX10_set_156 : decode cX10_set 156 = .ok (.bipush 26, 2) := dk_16 26 (dk_at dksX10_set_5 4 rfl rfl)
theorem dX10_set_158 : decode cX10_set 158 = .ok (.iaload, 1) := dk_46 (dk_at dksX10_set_5 6 rfl rfl)
theorem dX10_set_159 : decode cX10_set 159 = .ok (.ireturn, 1) := dk_172 (dk_at dksX10_set_5 7 rfl rfl)
theorem dX10_set_160 : decode cX10_set 160 = .ok (.aload_n 0, 1) := dk_42 (dk_at dksX10_set_5 8 rfl rfl)
theorem dX10_set_161 : decode cX10_set 161 = .ok (.getfield 59, 3) := dk_180 0 59 (dk_at dksX10_set_5 9 rfl rfl)
theorem dX10_set_164 : decode cX10_set 164 = .ok (.bipush 22, 2) := dk_16 22 (dk_at dksX10_set_5 12 rfl rfl)
theorem dX10_set_166 : decode cX10_set 166 = .ok (.iaload, 1) := dk_46 (dk_at dksX10_set_5 14 rfl rfl)
theorem dX10_set_167 : decode cX10_set 167 = .ok (.ireturn, 1) := dk_172 (dk_at dksX10_set_5 15 rfl rfl)
theorem dX10_set_168 : decode cX10_set 168 = .ok (.aload_n 0, 1) := dk_42 (dk_at dksX10_set_5 16 rfl rfl)
theorem dX10_set_169 : decode cX10_set 169 = .ok (.getfield 59, 3) := dk_180 0 59 (dk_at dksX10_set_5 17 rfl rfl)
theorem dX10_set_172 : decode cX10_set 172 = .ok (.bipush 23, 2) := dk_16 23 (dk_at dksX10_set_5 20 rfl rfl)
theorem dX10_set_174 : decode cX10_set 174 = .ok (.iaload, 1) := dk_46 (dk_at dksX10_set_5 22 rfl rfl)
theorem dX10_set_175 : decode cX10_set 175 = .ok (.ireturn, 1) := dk_172 (dk_at dksX10_set_5 23 rfl rfl)
theorem dX10_set_176 : decode cX10_set 176 = .ok (.aload_n 0, 1) := dk_42 (dk_at dksX10_set_6 0 rfl rfl)
theorem dX10_set_177 : decode cX10_set 177 = .ok (.getfield 59, 3) := dk_180 0 59 (dk_at dksX10_set_6 1 rfl rfl)
theorem dX10_set_180 : decode cX10_set 180 = .ok (.bipush 14, 2) := dk_16 14 (dk_at dksX10_set_6 4 rfl rfl)
theorem dX10_set_182 : decode cX10_set 182 = .ok (.iaload, 1) := dk_46 (dk_at dksX10_set_6 6 rfl rfl)
theorem dX10_set_183 : decode cX10_set 183 = .ok (.bipush 64, 2) := dk_16 64 (dk_at dksX10_set_6 7 rfl rfl)
theorem dX10_set_185 : decode cX10_set 185 = .ok (.aload_n 0, 1) := dk_42 (dk_at dksX10_set_6 9 rfl rfl)
theorem dX10_set_186 : decode cX10_set 186 = .ok (.getfield 44, 3) := dk_180 0 44 (dk_at dksX10_set_6 10 rfl rfl)
theorem dX10_set_189 : decode cX10_set 189 = .ok (.iconst 0, 1) := dk_3 (dk_at dksX10_set_6 13 rfl rfl)
theorem dX10_set_190 : decode cX10_set 190 = .ok (.iaload, 1) := dk_46 (dk_at dksX10_set_6 14 rfl rfl)
theorem dX10_set_191 : decode cX10_set 191 = .ok (.imul, 1) := dk_104 (dk_at dksX10_set_6 15 rfl rfl)
theorem dX10_set_192 : decode cX10_set 192 = .ok (.irem, 1) := dk_112 (dk_at dksX10_set_6 16 rfl rfl)
theorem dX10_set_193 : decode cX10_set 193 = .ok (.ireturn, 1) := dk_172 (dk_at dksX10_set_6 17 rfl rfl)
theorem dX10_set_194 : decode cX10_set 194 = .ok (.aload_n 0, 1) := dk_42 (dk_at dksX10_set_6 18 rfl rfl)
theorem dX10_set_195 : decode cX10_set 195 = .ok (.getfield 59, 3) := dk_180 0 59 (dk_at dksX10_set_6 19 rfl rfl)
theorem dX10_set_198 : decode cX10_set 198 = .ok (.bipush 11, 2) := dk_16 11 (dk_at dksX10_set_6 22 rfl rfl)
theorem dX10_set_200 : decode cX10_set 200 = .ok (.iaload, 1) := dk_46 (dk_at dksX10_set_7 0 rfl rfl)
theorem dX10_set_201 : decode cX10_set 201 = .ok (.ireturn, 1) := dk_172 (dk_at dksX10_set_7 1 rfl rfl)
theorem dX10_set_202 : decode cX10_set 202 = .ok (.aload_n 0, 1) := dk_42 (dk_at dksX10_set_7 2 rfl rfl)
theorem dX10_set_203 : decode cX10_set 203 = .ok (.iconst 1, 1) := dk_4 (dk_at dksX10_set_7 3 rfl rfl)
theorem dX10_set_204 : decode cX10_set 204 = .ok (.invokevirtual 250, 3) := dk_182 0 250 (dk_at dksX10_set_7 4 rfl rfl)
theorem dX10_set_207 : decode cX10_set 207 = .ok (.ireturn, 1) := dk_172 (dk_at dksX10_set_7 7 rfl rfl)
abbrev cX10_flying : ByteArray := prog_22_method_59_code
def yX10_flying : MethodName := ⟨RX10, "flying", "(II)I"⟩
def dkwX10_flying_2 : List UInt8 := [167, 0, 8, 42, 4, 182, 0, 250, 172]
abbrev dktX10_flying_2 : List UInt8 := dkwX10_flying_2 ++ []
def dkwX10_flying_1 : List UInt8 := [133, 9, 20, 1, 106, 184, 1, 102, 153, 0, 19, 42, 180, 0, 59, 16, 33, 6, 27, 104, 96, 28, 96, 46]
abbrev dktX10_flying_1 : List UInt8 := dkwX10_flying_1 ++ dktX10_flying_2
def dkwX10_flying_0 : List UInt8 := [42, 182, 0, 247, 27, 133, 9, 42, 180, 0, 59, 16, 31, 46, 4, 100, 133, 184, 1, 102, 153, 0, 31, 28]
abbrev dktX10_flying_0 : List UInt8 := dkwX10_flying_0 ++ dktX10_flying_1
theorem dksX10_flying_0 : cX10_flying.data.toList.drop 0 = dktX10_flying_0 := by decide +kernel
theorem dksX10_flying_1 : cX10_flying.data.toList.drop 24 = dktX10_flying_1 := dk_seg dksX10_flying_0 24 rfl rfl
theorem dksX10_flying_2 : cX10_flying.data.toList.drop 48 = dktX10_flying_2 := dk_seg dksX10_flying_1 24 rfl rfl
theorem dX10_flying_0 : decode cX10_flying 0 = .ok (.aload_n 0, 1) := dk_42 (dk_at dksX10_flying_0 0 rfl rfl)
theorem dX10_flying_1 : decode cX10_flying 1 = .ok (.invokevirtual 247, 3) := dk_182 0 247 (dk_at dksX10_flying_0 1 rfl rfl)
theorem dX10_flying_4 : decode cX10_flying 4 = .ok (.iload_n 1, 1) := dk_27 (dk_at dksX10_flying_0 4 rfl rfl)
theorem dX10_flying_5 : decode cX10_flying 5 = .ok (.i2l, 1) := dk_133 (dk_at dksX10_flying_0 5 rfl rfl)
theorem dX10_flying_6 : decode cX10_flying 6 = .ok (.lconst 0, 1) := dk_9 (dk_at dksX10_flying_0 6 rfl rfl)
theorem dX10_flying_7 : decode cX10_flying 7 = .ok (.aload_n 0, 1) := dk_42 (dk_at dksX10_flying_0 7 rfl rfl)
theorem dX10_flying_8 : decode cX10_flying 8 = .ok (.getfield 59, 3) := dk_180 0 59 (dk_at dksX10_flying_0 8 rfl rfl)
theorem dX10_flying_11 : decode cX10_flying 11 = .ok (.bipush 31, 2) := dk_16 31 (dk_at dksX10_flying_0 11 rfl rfl)
theorem dX10_flying_13 : decode cX10_flying 13 = .ok (.iaload, 1) := dk_46 (dk_at dksX10_flying_0 13 rfl rfl)
theorem dX10_flying_14 : decode cX10_flying 14 = .ok (.iconst 1, 1) := dk_4 (dk_at dksX10_flying_0 14 rfl rfl)
theorem dX10_flying_15 : decode cX10_flying 15 = .ok (.isub, 1) := dk_100 (dk_at dksX10_flying_0 15 rfl rfl)
theorem dX10_flying_16 : decode cX10_flying 16 = .ok (.i2l, 1) := dk_133 (dk_at dksX10_flying_0 16 rfl rfl)
theorem dX10_flying_17 : decode cX10_flying 17 = .ok (.invokestatic 358, 3) := dk_184 1 102 (dk_at dksX10_flying_0 17 rfl rfl)
theorem dX10_flying_20 : decode cX10_flying 20 = .ok (.ifCond .eq 31, 3) := dk_153 0 31 (dk_at dksX10_flying_0 20 rfl rfl)
theorem dX10_flying_23 : decode cX10_flying 23 = .ok (.iload_n 2, 1) := dk_28 (dk_at dksX10_flying_0 23 rfl rfl)
theorem dX10_flying_24 : decode cX10_flying 24 = .ok (.i2l, 1) := dk_133 (dk_at dksX10_flying_1 0 rfl rfl)
theorem dX10_flying_25 : decode cX10_flying 25 = .ok (.lconst 0, 1) := dk_9 (dk_at dksX10_flying_1 1 rfl rfl)
theorem dX10_flying_26 : decode cX10_flying 26 = .ok (.ldc2_w 362, 3) := dk_20 1 106 (dk_at dksX10_flying_1 2 rfl rfl)
theorem dX10_flying_29 : decode cX10_flying 29 = .ok (.invokestatic 358, 3) := dk_184 1 102 (dk_at dksX10_flying_1 5 rfl rfl)
theorem dX10_flying_32 : decode cX10_flying 32 = .ok (.ifCond .eq 19, 3) := dk_153 0 19 (dk_at dksX10_flying_1 8 rfl rfl)
theorem dX10_flying_35 : decode cX10_flying 35 = .ok (.aload_n 0, 1) := dk_42 (dk_at dksX10_flying_1 11 rfl rfl)
theorem dX10_flying_36 : decode cX10_flying 36 = .ok (.getfield 59, 3) := dk_180 0 59 (dk_at dksX10_flying_1 12 rfl rfl)
theorem dX10_flying_39 : decode cX10_flying 39 = .ok (.bipush 33, 2) := dk_16 33 (dk_at dksX10_flying_1 15 rfl rfl)
theorem dX10_flying_41 : decode cX10_flying 41 = .ok (.iconst 3, 1) := dk_6 (dk_at dksX10_flying_1 17 rfl rfl)
theorem dX10_flying_42 : decode cX10_flying 42 = .ok (.iload_n 1, 1) := dk_27 (dk_at dksX10_flying_1 18 rfl rfl)
theorem dX10_flying_43 : decode cX10_flying 43 = .ok (.imul, 1) := dk_104 (dk_at dksX10_flying_1 19 rfl rfl)
theorem dX10_flying_44 : decode cX10_flying 44 = .ok (.iadd, 1) := dk_96 (dk_at dksX10_flying_1 20 rfl rfl)
theorem dX10_flying_45 : decode cX10_flying 45 = .ok (.iload_n 2, 1) := dk_28 (dk_at dksX10_flying_1 21 rfl rfl)
theorem dX10_flying_46 : decode cX10_flying 46 = .ok (.iadd, 1) := dk_96 (dk_at dksX10_flying_1 22 rfl rfl)
theorem dX10_flying_47 : decode cX10_flying 47 = .ok (.iaload, 1) := dk_46 (dk_at dksX10_flying_1 23 rfl rfl)
theorem dX10_flying_48 : decode cX10_flying 48 = .ok (.goto 8, 3) := dk_167 0 8 (dk_at dksX10_flying_2 0 rfl rfl)
theorem dX10_flying_51 : decode cX10_flying 51 = .ok (.aload_n 0, 1) := dk_42 (dk_at dksX10_flying_2 3 rfl rfl)
theorem dX10_flying_52 : decode cX10_flying 52 = .ok (.iconst 1, 1) := dk_4 (dk_at dksX10_flying_2 4 rfl rfl)
theorem dX10_flying_53 : decode cX10_flying 53 = .ok (.invokevirtual 250, 3) := dk_182 0 250 (dk_at dksX10_flying_2 5 rfl rfl)
theorem dX10_flying_56 : decode cX10_flying 56 = .ok (.ireturn, 1) := dk_172 (dk_at dksX10_flying_2 8 rfl rfl)
abbrev cX10_isIn : ByteArray := prog_22_method_4_code
def yX10_isIn : MethodName := ⟨RX10, "isIn", "(JJJ)Z"⟩
def dkwX10_isIn_0 : List UInt8 := [30, 32, 148, 155, 0, 14, 30, 22, 4, 148, 157, 0, 7, 4, 167, 0, 4, 3, 172]
abbrev dktX10_isIn_0 : List UInt8 := dkwX10_isIn_0 ++ []
theorem dksX10_isIn_0 : cX10_isIn.data.toList.drop 0 = dktX10_isIn_0 := by decide +kernel
theorem dX10_isIn_0 : decode cX10_isIn 0 = .ok (.lload_n 0, 1) := dk_30 (dk_at dksX10_isIn_0 0 rfl rfl)
theorem dX10_isIn_1 : decode cX10_isIn 1 = .ok (.lload_n 2, 1) := dk_32 (dk_at dksX10_isIn_0 1 rfl rfl)
theorem dX10_isIn_2 : decode cX10_isIn 2 = .ok (.lcmp, 1) := dk_148 (dk_at dksX10_isIn_0 2 rfl rfl)
theorem dX10_isIn_3 : decode cX10_isIn 3 = .ok (.ifCond .lt 14, 3) := dk_155 0 14 (dk_at dksX10_isIn_0 3 rfl rfl)
theorem dX10_isIn_6 : decode cX10_isIn 6 = .ok (.lload_n 0, 1) := dk_30 (dk_at dksX10_isIn_0 6 rfl rfl)
theorem dX10_isIn_7 : decode cX10_isIn 7 = .ok (.lload 4, 2) := dk_22 4 (dk_at dksX10_isIn_0 7 rfl rfl)
theorem dX10_isIn_9 : decode cX10_isIn 9 = .ok (.lcmp, 1) := dk_148 (dk_at dksX10_isIn_0 9 rfl rfl)
theorem dX10_isIn_10 : decode cX10_isIn 10 = .ok (.ifCond .gt 7, 3) := dk_157 0 7 (dk_at dksX10_isIn_0 10 rfl rfl)
theorem dX10_isIn_13 : decode cX10_isIn 13 = .ok (.iconst 1, 1) := dk_4 (dk_at dksX10_isIn_0 13 rfl rfl)
theorem dX10_isIn_14 : decode cX10_isIn 14 = .ok (.goto 4, 3) := dk_167 0 4 (dk_at dksX10_isIn_0 14 rfl rfl)
theorem dX10_isIn_17 : decode cX10_isIn 17 = .ok (.iconst 0, 1) := dk_3 (dk_at dksX10_isIn_0 17 rfl rfl)
theorem dX10_isIn_18 : decode cX10_isIn 18 = .ok (.ireturn, 1) := dk_172 (dk_at dksX10_isIn_0 18 rfl rfl)
abbrev cX10_slot : ByteArray := prog_22_method_60_code
def yX10_slot : MethodName := ⟨RX10, "slot", "(I)I"⟩
def dkwX10_slot_2 : List UInt8 := [182, 1, 62, 161, 0, 16, 42, 180, 0, 59, 17, 0, 153, 27, 96, 46, 167, 0, 4, 2, 172]
abbrev dktX10_slot_2 : List UInt8 := dkwX10_slot_2 ++ []
def dkwX10_slot_1 : List UInt8 := [180, 0, 59, 17, 0, 153, 27, 96, 46, 2, 159, 0, 33, 42, 180, 0, 59, 17, 0, 217, 27, 96, 46, 42]
abbrev dktX10_slot_1 : List UInt8 := dkwX10_slot_1 ++ dktX10_slot_2
def dkwX10_slot_0 : List UInt8 := [42, 182, 0, 247, 27, 133, 9, 20, 1, 108, 184, 1, 102, 154, 0, 9, 42, 4, 182, 0, 250, 172, 42]
abbrev dktX10_slot_0 : List UInt8 := dkwX10_slot_0 ++ dktX10_slot_1
theorem dksX10_slot_0 : cX10_slot.data.toList.drop 0 = dktX10_slot_0 := by decide +kernel
theorem dksX10_slot_1 : cX10_slot.data.toList.drop 23 = dktX10_slot_1 := dk_seg dksX10_slot_0 23 rfl rfl
theorem dksX10_slot_2 : cX10_slot.data.toList.drop 47 = dktX10_slot_2 := dk_seg dksX10_slot_1 24 rfl rfl
theorem dX10_slot_0 : decode cX10_slot 0 = .ok (.aload_n 0, 1) := dk_42 (dk_at dksX10_slot_0 0 rfl rfl)
theorem dX10_slot_1 : decode cX10_slot 1 = .ok (.invokevirtual 247, 3) := dk_182 0 247 (dk_at dksX10_slot_0 1 rfl rfl)
theorem dX10_slot_4 : decode cX10_slot 4 = .ok (.iload_n 1, 1) := dk_27 (dk_at dksX10_slot_0 4 rfl rfl)
theorem dX10_slot_5 : decode cX10_slot 5 = .ok (.i2l, 1) := dk_133 (dk_at dksX10_slot_0 5 rfl rfl)
theorem dX10_slot_6 : decode cX10_slot 6 = .ok (.lconst 0, 1) := dk_9 (dk_at dksX10_slot_0 6 rfl rfl)
theorem dX10_slot_7 : decode cX10_slot 7 = .ok (.ldc2_w 364, 3) := dk_20 1 108 (dk_at dksX10_slot_0 7 rfl rfl)
theorem dX10_slot_10 : decode cX10_slot 10 = .ok (.invokestatic 358, 3) := dk_184 1 102 (dk_at dksX10_slot_0 10 rfl rfl)
theorem dX10_slot_13 : decode cX10_slot 13 = .ok (.ifCond .ne 9, 3) := dk_154 0 9 (dk_at dksX10_slot_0 13 rfl rfl)
theorem dX10_slot_16 : decode cX10_slot 16 = .ok (.aload_n 0, 1) := dk_42 (dk_at dksX10_slot_0 16 rfl rfl)
theorem dX10_slot_17 : decode cX10_slot 17 = .ok (.iconst 1, 1) := dk_4 (dk_at dksX10_slot_0 17 rfl rfl)
theorem dX10_slot_18 : decode cX10_slot 18 = .ok (.invokevirtual 250, 3) := dk_182 0 250 (dk_at dksX10_slot_0 18 rfl rfl)
theorem dX10_slot_21 : decode cX10_slot 21 = .ok (.ireturn, 1) := dk_172 (dk_at dksX10_slot_0 21 rfl rfl)
theorem dX10_slot_22 : decode cX10_slot 22 = .ok (.aload_n 0, 1) := dk_42 (dk_at dksX10_slot_0 22 rfl rfl)
theorem dX10_slot_23 : decode cX10_slot 23 = .ok (.getfield 59, 3) := dk_180 0 59 (dk_at dksX10_slot_1 0 rfl rfl)
theorem dX10_slot_26 : decode cX10_slot 26 = .ok (.sipush 153, 3) := dk_17 0 153 (dk_at dksX10_slot_1 3 rfl rfl)
theorem dX10_slot_29 : decode cX10_slot 29 = .ok (.iload_n 1, 1) := dk_27 (dk_at dksX10_slot_1 6 rfl rfl)
theorem dX10_slot_30 : decode cX10_slot 30 = .ok (.iadd, 1) := dk_96 (dk_at dksX10_slot_1 7 rfl rfl)
theorem dX10_slot_31 : decode cX10_slot 31 = .ok (.iaload, 1) := dk_46 (dk_at dksX10_slot_1 8 rfl rfl)
theorem dX10_slot_32 : decode cX10_slot 32 = .ok (.iconst (-1), 1) := dk_2 (dk_at dksX10_slot_1 9 rfl rfl)
theorem dX10_slot_33 : decode cX10_slot 33 = .ok (.if_icmp .eq 33, 3) := dk_159 0 33 (dk_at dksX10_slot_1 10 rfl rfl)
theorem dX10_slot_36 : decode cX10_slot 36 = .ok (.aload_n 0, 1) := dk_42 (dk_at dksX10_slot_1 13 rfl rfl)
theorem dX10_slot_37 : decode cX10_slot 37 = .ok (.getfield 59, 3) := dk_180 0 59 (dk_at dksX10_slot_1 14 rfl rfl)
theorem dX10_slot_40 : decode cX10_slot 40 = .ok (.sipush 217, 3) := dk_17 0 217 (dk_at dksX10_slot_1 17 rfl rfl)
theorem dX10_slot_43 : decode cX10_slot 43 = .ok (.iload_n 1, 1) := dk_27 (dk_at dksX10_slot_1 20 rfl rfl)
theorem dX10_slot_44 : decode cX10_slot 44 = .ok (.iadd, 1) := dk_96 (dk_at dksX10_slot_1 21 rfl rfl)
theorem dX10_slot_45 : decode cX10_slot 45 = .ok (.iaload, 1) := dk_46 (dk_at dksX10_slot_1 22 rfl rfl)
theorem dX10_slot_46 : decode cX10_slot 46 = .ok (.aload_n 0, 1) := dk_42 (dk_at dksX10_slot_1 23 rfl rfl)
theorem dX10_slot_47 : decode cX10_slot 47 = .ok (.invokevirtual 318, 3) := dk_182 1 62 (dk_at dksX10_slot_2 0 rfl rfl)
theorem dX10_slot_50 : decode cX10_slot 50 = .ok (.if_icmp .lt 16, 3) := dk_161 0 16 (dk_at dksX10_slot_2 3 rfl rfl)
theorem dX10_slot_53 : decode cX10_slot 53 = .ok (.aload_n 0, 1) := dk_42 (dk_at dksX10_slot_2 6 rfl rfl)
theorem dX10_slot_54 : decode cX10_slot 54 = .ok (.getfield 59, 3) := dk_180 0 59 (dk_at dksX10_slot_2 7 rfl rfl)
theorem dX10_slot_57 : decode cX10_slot 57 = .ok (.sipush 153, 3) := dk_17 0 153 (dk_at dksX10_slot_2 10 rfl rfl)
theorem dX10_slot_60 : decode cX10_slot 60 = .ok (.iload_n 1, 1) := dk_27 (dk_at dksX10_slot_2 13 rfl rfl)
theorem dX10_slot_61 : decode cX10_slot 61 = .ok (.iadd, 1) := dk_96 (dk_at dksX10_slot_2 14 rfl rfl)
theorem dX10_slot_62 : decode cX10_slot 62 = .ok (.iaload, 1) := dk_46 (dk_at dksX10_slot_2 15 rfl rfl)
theorem dX10_slot_63 : decode cX10_slot 63 = .ok (.goto 4, 3) := dk_167 0 4 (dk_at dksX10_slot_2 16 rfl rfl)
theorem dX10_slot_66 : decode cX10_slot 66 = .ok (.iconst (-1), 1) := dk_2 (dk_at dksX10_slot_2 19 rfl rfl)
theorem dX10_slot_67 : decode cX10_slot 67 = .ok (.ireturn, 1) := dk_172 (dk_at dksX10_slot_2 20 rfl rfl)
abbrev cX10_played : ByteArray := prog_22_method_61_code
def yX10_played : MethodName := ⟨RX10, "played", "(II)I"⟩
def dkwX10_played_2 : List UInt8 := [167, 0, 6, 17, 2, 25, 42, 180, 0, 59, 16, 6, 46, 4, 100, 27, 100, 17, 0, 128, 112, 96, 46, 172]
abbrev dktX10_played_2 : List UInt8 := dkwX10_played_2 ++ []
def dkwX10_played_1 : List UInt8 := [184, 1, 102, 154, 0, 9, 42, 4, 182, 0, 250, 172, 42, 180, 0, 59, 28, 154, 0, 9, 17, 1, 153]
abbrev dktX10_played_1 : List UInt8 := dkwX10_played_1 ++ dktX10_played_2
def dkwX10_played_0 : List UInt8 := [42, 182, 0, 247, 27, 133, 9, 42, 182, 1, 110, 4, 100, 133, 184, 1, 102, 153, 0, 13, 28, 133, 9, 10]
abbrev dktX10_played_0 : List UInt8 := dkwX10_played_0 ++ dktX10_played_1
theorem dksX10_played_0 : cX10_played.data.toList.drop 0 = dktX10_played_0 := by decide +kernel
theorem dksX10_played_1 : cX10_played.data.toList.drop 24 = dktX10_played_1 := dk_seg dksX10_played_0 24 rfl rfl
theorem dksX10_played_2 : cX10_played.data.toList.drop 47 = dktX10_played_2 := dk_seg dksX10_played_1 23 rfl rfl
theorem dX10_played_0 : decode cX10_played 0 = .ok (.aload_n 0, 1) := dk_42 (dk_at dksX10_played_0 0 rfl rfl)
theorem dX10_played_1 : decode cX10_played 1 = .ok (.invokevirtual 247, 3) := dk_182 0 247 (dk_at dksX10_played_0 1 rfl rfl)
theorem dX10_played_4 : decode cX10_played 4 = .ok (.iload_n 1, 1) := dk_27 (dk_at dksX10_played_0 4 rfl rfl)
theorem dX10_played_5 : decode cX10_played 5 = .ok (.i2l, 1) := dk_133 (dk_at dksX10_played_0 5 rfl rfl)
theorem dX10_played_6 : decode cX10_played 6 = .ok (.lconst 0, 1) := dk_9 (dk_at dksX10_played_0 6 rfl rfl)
theorem dX10_played_7 : decode cX10_played 7 = .ok (.aload_n 0, 1) := dk_42 (dk_at dksX10_played_0 7 rfl rfl)
theorem dX10_played_8 : decode cX10_played 8 = .ok (.invokevirtual 366, 3) := dk_182 1 110 (dk_at dksX10_played_0 8 rfl rfl)
theorem dX10_played_11 : decode cX10_played 11 = .ok (.iconst 1, 1) := dk_4 (dk_at dksX10_played_0 11 rfl rfl)
theorem dX10_played_12 : decode cX10_played 12 = .ok (.isub, 1) := dk_100 (dk_at dksX10_played_0 12 rfl rfl)
theorem dX10_played_13 : decode cX10_played 13 = .ok (.i2l, 1) := dk_133 (dk_at dksX10_played_0 13 rfl rfl)
theorem dX10_played_14 : decode cX10_played 14 = .ok (.invokestatic 358, 3) := dk_184 1 102 (dk_at dksX10_played_0 14 rfl rfl)
theorem dX10_played_17 : decode cX10_played 17 = .ok (.ifCond .eq 13, 3) := dk_153 0 13 (dk_at dksX10_played_0 17 rfl rfl)
theorem dX10_played_20 : decode cX10_played 20 = .ok (.iload_n 2, 1) := dk_28 (dk_at dksX10_played_0 20 rfl rfl)
theorem dX10_played_21 : decode cX10_played 21 = .ok (.i2l, 1) := dk_133 (dk_at dksX10_played_0 21 rfl rfl)
theorem dX10_played_22 : decode cX10_played 22 = .ok (.lconst 0, 1) := dk_9 (dk_at dksX10_played_0 22 rfl rfl)
theorem dX10_played_23 : decode cX10_played 23 = .ok (.lconst 1, 1) := dk_10 (dk_at dksX10_played_0 23 rfl rfl)
theorem dX10_played_24 : decode cX10_played 24 = .ok (.invokestatic 358, 3) := dk_184 1 102 (dk_at dksX10_played_1 0 rfl rfl)
theorem dX10_played_27 : decode cX10_played 27 = .ok (.ifCond .ne 9, 3) := dk_154 0 9 (dk_at dksX10_played_1 3 rfl rfl)
theorem dX10_played_30 : decode cX10_played 30 = .ok (.aload_n 0, 1) := dk_42 (dk_at dksX10_played_1 6 rfl rfl)
theorem dX10_played_31 : decode cX10_played 31 = .ok (.iconst 1, 1) := dk_4 (dk_at dksX10_played_1 7 rfl rfl)
theorem dX10_played_32 : decode cX10_played 32 = .ok (.invokevirtual 250, 3) := dk_182 0 250 (dk_at dksX10_played_1 8 rfl rfl)
theorem dX10_played_35 : decode cX10_played 35 = .ok (.ireturn, 1) := dk_172 (dk_at dksX10_played_1 11 rfl rfl)
theorem dX10_played_36 : decode cX10_played 36 = .ok (.aload_n 0, 1) := dk_42 (dk_at dksX10_played_1 12 rfl rfl)
theorem dX10_played_37 : decode cX10_played 37 = .ok (.getfield 59, 3) := dk_180 0 59 (dk_at dksX10_played_1 13 rfl rfl)
theorem dX10_played_40 : decode cX10_played 40 = .ok (.iload_n 2, 1) := dk_28 (dk_at dksX10_played_1 16 rfl rfl)
theorem dX10_played_41 : decode cX10_played 41 = .ok (.ifCond .ne 9, 3) := dk_154 0 9 (dk_at dksX10_played_1 17 rfl rfl)
theorem dX10_played_44 : decode cX10_played 44 = .ok (.sipush 409, 3) := dk_17 1 153 (dk_at dksX10_played_1 20 rfl rfl)
theorem dX10_played_47 : decode cX10_played 47 = .ok (.goto 6, 3) := dk_167 0 6 (dk_at dksX10_played_2 0 rfl rfl)
theorem dX10_played_50 : decode cX10_played 50 = .ok (.sipush 537, 3) := dk_17 2 25 (dk_at dksX10_played_2 3 rfl rfl)
theorem dX10_played_53 : decode cX10_played 53 = .ok (.aload_n 0, 1) := dk_42 (dk_at dksX10_played_2 6 rfl rfl)
theorem dX10_played_54 : decode cX10_played 54 = .ok (.getfield 59, 3) := dk_180 0 59 (dk_at dksX10_played_2 7 rfl rfl)
theorem dX10_played_57 : decode cX10_played 57 = .ok (.bipush 6, 2) := dk_16 6 (dk_at dksX10_played_2 10 rfl rfl)
theorem dX10_played_59 : decode cX10_played 59 = .ok (.iaload, 1) := dk_46 (dk_at dksX10_played_2 12 rfl rfl)
theorem dX10_played_60 : decode cX10_played 60 = .ok (.iconst 1, 1) := dk_4 (dk_at dksX10_played_2 13 rfl rfl)
theorem dX10_played_61 : decode cX10_played 61 = .ok (.isub, 1) := dk_100 (dk_at dksX10_played_2 14 rfl rfl)
theorem dX10_played_62 : decode cX10_played 62 = .ok (.iload_n 1, 1) := dk_27 (dk_at dksX10_played_2 15 rfl rfl)
theorem dX10_played_63 : decode cX10_played 63 = .ok (.isub, 1) := dk_100 (dk_at dksX10_played_2 16 rfl rfl)
theorem dX10_played_64 : decode cX10_played 64 = .ok (.sipush 128, 3) := dk_17 0 128 (dk_at dksX10_played_2 17 rfl rfl)
theorem dX10_played_67 : decode cX10_played 67 = .ok (.irem, 1) := dk_112 (dk_at dksX10_played_2 20 rfl rfl)
theorem dX10_played_68 : decode cX10_played 68 = .ok (.iadd, 1) := dk_96 (dk_at dksX10_played_2 21 rfl rfl)
theorem dX10_played_69 : decode cX10_played 69 = .ok (.iaload, 1) := dk_46 (dk_at dksX10_played_2 22 rfl rfl)
theorem dX10_played_70 : decode cX10_played 70 = .ok (.ireturn, 1) := dk_172 (dk_at dksX10_played_2 23 rfl rfl)
abbrev cX10_playedKept : ByteArray := prog_22_method_56_code
def yX10_playedKept : MethodName := ⟨RX10, "playedKept", "()I"⟩
def dkwX10_playedKept_0 : List UInt8 := [17, 0, 128, 42, 180, 0, 59, 16, 6, 46, 184, 0, 124, 172]
abbrev dktX10_playedKept_0 : List UInt8 := dkwX10_playedKept_0 ++ []
theorem dksX10_playedKept_0 : cX10_playedKept.data.toList.drop 0 = dktX10_playedKept_0 := by decide +kernel
theorem dX10_playedKept_0 : decode cX10_playedKept 0 = .ok (.sipush 128, 3) := dk_17 0 128 (dk_at dksX10_playedKept_0 0 rfl rfl)
theorem dX10_playedKept_3 : decode cX10_playedKept 3 = .ok (.aload_n 0, 1) := dk_42 (dk_at dksX10_playedKept_0 3 rfl rfl)
theorem dX10_playedKept_4 : decode cX10_playedKept 4 = .ok (.getfield 59, 3) := dk_180 0 59 (dk_at dksX10_playedKept_0 4 rfl rfl)
theorem dX10_playedKept_7 : decode cX10_playedKept 7 = .ok (.bipush 6, 2) := dk_16 6 (dk_at dksX10_playedKept_0 7 rfl rfl)
theorem dX10_playedKept_9 : decode cX10_playedKept 9 = .ok (.iaload, 1) := dk_46 (dk_at dksX10_playedKept_0 9 rfl rfl)
theorem dX10_playedKept_10 : decode cX10_playedKept 10 = .ok (.invokestatic 124, 3) := dk_184 0 124 (dk_at dksX10_playedKept_0 10 rfl rfl)
theorem dX10_playedKept_13 : decode cX10_playedKept 13 = .ok (.ireturn, 1) := dk_172 (dk_at dksX10_playedKept_0 13 rfl rfl)
abbrev cX10_spans : ByteArray := prog_22_method_62_code
def yX10_spans : MethodName := ⟨RX10, "spans", "(II)I"⟩
def dkwX10_spans_5 : List UInt8 := [167, 255, 172, 28, 2, 160, 0, 7, 29, 167, 0, 8, 42, 4, 182, 0, 250, 172]
abbrev dktX10_spans_5 : List UInt8 := dkwX10_spans_5 ++ []
def dkwX10_spans_4 : List UInt8 := [172, 132, 3, 1, 21, 6, 153, 0, 10, 21, 4, 4, 96, 167, 0, 4, 3, 54, 4, 132, 5, 255]
abbrev dktX10_spans_4 : List UInt8 := dkwX10_spans_4 ++ dktX10_spans_5
def dkwX10_spans_3 : List UInt8 := [167, 0, 4, 3, 54, 6, 21, 6, 154, 0, 20, 21, 4, 27, 161, 0, 14, 29, 28, 160, 0, 6, 21, 4]
abbrev dktX10_spans_3 : List UInt8 := dkwX10_spans_3 ++ dktX10_spans_4
def dkwX10_spans_2 : List UInt8 := [17, 2, 25, 42, 180, 0, 59, 16, 6, 46, 21, 5, 100, 17, 0, 128, 112, 96, 46, 4, 160, 0, 7, 4]
abbrev dktX10_spans_2 : List UInt8 := dkwX10_spans_2 ++ dktX10_spans_3
def dkwX10_spans_1 : List UInt8 := [3, 54, 4, 42, 182, 1, 110, 54, 5, 21, 5, 155, 0, 85, 21, 5, 158, 0, 34, 42, 180, 0, 59]
abbrev dktX10_spans_1 : List UInt8 := dkwX10_spans_1 ++ dktX10_spans_2
def dkwX10_spans_0 : List UInt8 := [42, 182, 0, 247, 27, 133, 10, 20, 1, 113, 184, 1, 102, 154, 0, 9, 42, 5, 182, 0, 250, 172, 3, 62]
abbrev dktX10_spans_0 : List UInt8 := dkwX10_spans_0 ++ dktX10_spans_1
theorem dksX10_spans_0 : cX10_spans.data.toList.drop 0 = dktX10_spans_0 := by decide +kernel
theorem dksX10_spans_1 : cX10_spans.data.toList.drop 24 = dktX10_spans_1 := dk_seg dksX10_spans_0 24 rfl rfl
theorem dksX10_spans_2 : cX10_spans.data.toList.drop 47 = dktX10_spans_2 := dk_seg dksX10_spans_1 23 rfl rfl
theorem dksX10_spans_3 : cX10_spans.data.toList.drop 71 = dktX10_spans_3 := dk_seg dksX10_spans_2 24 rfl rfl
theorem dksX10_spans_4 : cX10_spans.data.toList.drop 95 = dktX10_spans_4 := dk_seg dksX10_spans_3 24 rfl rfl
theorem dksX10_spans_5 : cX10_spans.data.toList.drop 117 = dktX10_spans_5 := dk_seg dksX10_spans_4 22 rfl rfl
theorem dX10_spans_0 : decode cX10_spans 0 = .ok (.aload_n 0, 1) := dk_42 (dk_at dksX10_spans_0 0 rfl rfl)
theorem dX10_spans_1 : decode cX10_spans 1 = .ok (.invokevirtual 247, 3) := dk_182 0 247 (dk_at dksX10_spans_0 1 rfl rfl)
theorem dX10_spans_4 : decode cX10_spans 4 = .ok (.iload_n 1, 1) := dk_27 (dk_at dksX10_spans_0 4 rfl rfl)
theorem dX10_spans_5 : decode cX10_spans 5 = .ok (.i2l, 1) := dk_133 (dk_at dksX10_spans_0 5 rfl rfl)
theorem dX10_spans_6 : decode cX10_spans 6 = .ok (.lconst 1, 1) := dk_10 (dk_at dksX10_spans_0 6 rfl rfl)
theorem dX10_spans_7 : decode cX10_spans 7 = .ok (.ldc2_w 369, 3) := dk_20 1 113 (dk_at dksX10_spans_0 7 rfl rfl)
theorem dX10_spans_10 : decode cX10_spans 10 = .ok (.invokestatic 358, 3) := dk_184 1 102 (dk_at dksX10_spans_0 10 rfl rfl)
theorem dX10_spans_13 : decode cX10_spans 13 = .ok (.ifCond .ne 9, 3) := dk_154 0 9 (dk_at dksX10_spans_0 13 rfl rfl)
theorem dX10_spans_16 : decode cX10_spans 16 = .ok (.aload_n 0, 1) := dk_42 (dk_at dksX10_spans_0 16 rfl rfl)
theorem dX10_spans_17 : decode cX10_spans 17 = .ok (.iconst 2, 1) := dk_5 (dk_at dksX10_spans_0 17 rfl rfl)
theorem dX10_spans_18 : decode cX10_spans 18 = .ok (.invokevirtual 250, 3) := dk_182 0 250 (dk_at dksX10_spans_0 18 rfl rfl)
theorem dX10_spans_21 : decode cX10_spans 21 = .ok (.ireturn, 1) := dk_172 (dk_at dksX10_spans_0 21 rfl rfl)
theorem dX10_spans_22 : decode cX10_spans 22 = .ok (.iconst 0, 1) := dk_3 (dk_at dksX10_spans_0 22 rfl rfl)
theorem dX10_spans_23 : decode cX10_spans 23 = .ok (.istore_n 3, 1) := dk_62 (dk_at dksX10_spans_0 23 rfl rfl)
theorem dX10_spans_24 : decode cX10_spans 24 = .ok (.iconst 0, 1) := dk_3 (dk_at dksX10_spans_1 0 rfl rfl)
theorem dX10_spans_25 : decode cX10_spans 25 = .ok (.istore 4, 2) := dk_54 4 (dk_at dksX10_spans_1 1 rfl rfl)
theorem dX10_spans_27 : decode cX10_spans 27 = .ok (.aload_n 0, 1) := dk_42 (dk_at dksX10_spans_1 3 rfl rfl)
theorem dX10_spans_28 : decode cX10_spans 28 = .ok (.invokevirtual 366, 3) := dk_182 1 110 (dk_at dksX10_spans_1 4 rfl rfl)
theorem dX10_spans_31 : decode cX10_spans 31 = .ok (.istore 5, 2) := dk_54 5 (dk_at dksX10_spans_1 7 rfl rfl)
theorem dX10_spans_33 : decode cX10_spans 33 = .ok (.iload 5, 2) := dk_21 5 (dk_at dksX10_spans_1 9 rfl rfl)
theorem dX10_spans_35 : decode cX10_spans 35 = .ok (.ifCond .lt 85, 3) := dk_155 0 85 (dk_at dksX10_spans_1 11 rfl rfl)
theorem dX10_spans_38 : decode cX10_spans 38 = .ok (.iload 5, 2) := dk_21 5 (dk_at dksX10_spans_1 14 rfl rfl)
theorem dX10_spans_40 : decode cX10_spans 40 = .ok (.ifCond .le 34, 3) := dk_158 0 34 (dk_at dksX10_spans_1 16 rfl rfl)
theorem dX10_spans_43 : decode cX10_spans 43 = .ok (.aload_n 0, 1) := dk_42 (dk_at dksX10_spans_1 19 rfl rfl)
theorem dX10_spans_44 : decode cX10_spans 44 = .ok (.getfield 59, 3) := dk_180 0 59 (dk_at dksX10_spans_1 20 rfl rfl)
theorem dX10_spans_47 : decode cX10_spans 47 = .ok (.sipush 537, 3) := dk_17 2 25 (dk_at dksX10_spans_2 0 rfl rfl)
theorem dX10_spans_50 : decode cX10_spans 50 = .ok (.aload_n 0, 1) := dk_42 (dk_at dksX10_spans_2 3 rfl rfl)
theorem dX10_spans_51 : decode cX10_spans 51 = .ok (.getfield 59, 3) := dk_180 0 59 (dk_at dksX10_spans_2 4 rfl rfl)
theorem dX10_spans_54 : decode cX10_spans 54 = .ok (.bipush 6, 2) := dk_16 6 (dk_at dksX10_spans_2 7 rfl rfl)
theorem dX10_spans_56 : decode cX10_spans 56 = .ok (.iaload, 1) := dk_46 (dk_at dksX10_spans_2 9 rfl rfl)
theorem dX10_spans_57 : decode cX10_spans 57 = .ok (.iload 5, 2) := dk_21 5 (dk_at dksX10_spans_2 10 rfl rfl)
theorem dX10_spans_59 : decode cX10_spans 59 = .ok (.isub, 1) := dk_100 (dk_at dksX10_spans_2 12 rfl rfl)
theorem dX10_spans_60 : decode cX10_spans 60 = .ok (.sipush 128, 3) := dk_17 0 128 (dk_at dksX10_spans_2 13 rfl rfl)
theorem dX10_spans_63 : decode cX10_spans 63 = .ok (.irem, 1) := dk_112 (dk_at dksX10_spans_2 16 rfl rfl)
theorem dX10_spans_64 : decode cX10_spans 64 = .ok (.iadd, 1) := dk_96 (dk_at dksX10_spans_2 17 rfl rfl)
theorem dX10_spans_65 : decode cX10_spans 65 = .ok (.iaload, 1) := dk_46 (dk_at dksX10_spans_2 18 rfl rfl)
theorem dX10_spans_66 : decode cX10_spans 66 = .ok (.iconst 1, 1) := dk_4 (dk_at dksX10_spans_2 19 rfl rfl)
theorem dX10_spans_67 : decode cX10_spans 67 = .ok (.if_icmp .ne 7, 3) := dk_160 0 7 (dk_at dksX10_spans_2 20 rfl rfl)
theorem dX10_spans_70 : decode cX10_spans 70 = .ok (.iconst 1, 1) := dk_4 (dk_at dksX10_spans_2 23 rfl rfl)
theorem dX10_spans_71 : decode cX10_spans 71 = .ok (.goto 4, 3) := dk_167 0 4 (dk_at dksX10_spans_3 0 rfl rfl)
theorem dX10_spans_74 : decode cX10_spans 74 = .ok (.iconst 0, 1) := dk_3 (dk_at dksX10_spans_3 3 rfl rfl)
theorem dX10_spans_75 : decode cX10_spans 75 = .ok (.istore 6, 2) := dk_54 6 (dk_at dksX10_spans_3 4 rfl rfl)
theorem dX10_spans_77 : decode cX10_spans 77 = .ok (.iload 6, 2) := dk_21 6 (dk_at dksX10_spans_3 6 rfl rfl)
theorem dX10_spans_79 : decode cX10_spans 79 = .ok (.ifCond .ne 20, 3) := dk_154 0 20 (dk_at dksX10_spans_3 8 rfl rfl)
theorem dX10_spans_82 : decode cX10_spans 82 = .ok (.iload 4, 2) := dk_21 4 (dk_at dksX10_spans_3 11 rfl rfl)
theorem dX10_spans_84 : decode cX10_spans 84 = .ok (.iload_n 1, 1) := dk_27 (dk_at dksX10_spans_3 13 rfl rfl)
theorem dX10_spans_85 : decode cX10_spans 85 = .ok (.if_icmp .lt 14, 3) := dk_161 0 14 (dk_at dksX10_spans_3 14 rfl rfl)
theorem dX10_spans_88 : decode cX10_spans 88 = .ok (.iload_n 3, 1) := dk_29 (dk_at dksX10_spans_3 17 rfl rfl)
theorem dX10_spans_89 : decode cX10_spans 89 = .ok (.iload_n 2, 1) := dk_28 (dk_at dksX10_spans_3 18 rfl rfl)
theorem dX10_spans_90 : decode cX10_spans 90 = .ok (.if_icmp .ne 6, 3) := dk_160 0 6 (dk_at dksX10_spans_3 19 rfl rfl)
theorem dX10_spans_93 : decode cX10_spans 93 = .ok (.iload 4, 2) := dk_21 4 (dk_at dksX10_spans_3 22 rfl rfl)
theorem dX10_spans_95 : decode cX10_spans 95 = .ok (.ireturn, 1) := dk_172 (dk_at dksX10_spans_4 0 rfl rfl)
theorem dX10_spans_96 : decode cX10_spans 96 = .ok (.iinc 3 1, 3) := dk_132 3 1 (dk_at dksX10_spans_4 1 rfl rfl)
theorem dX10_spans_99 : decode cX10_spans 99 = .ok (.iload 6, 2) := dk_21 6 (dk_at dksX10_spans_4 4 rfl rfl)
theorem dX10_spans_101 : decode cX10_spans 101 = .ok (.ifCond .eq 10, 3) := dk_153 0 10 (dk_at dksX10_spans_4 6 rfl rfl)
theorem dX10_spans_104 : decode cX10_spans 104 = .ok (.iload 4, 2) := dk_21 4 (dk_at dksX10_spans_4 9 rfl rfl)
theorem dX10_spans_106 : decode cX10_spans 106 = .ok (.iconst 1, 1) := dk_4 (dk_at dksX10_spans_4 11 rfl rfl)
theorem dX10_spans_107 : decode cX10_spans 107 = .ok (.iadd, 1) := dk_96 (dk_at dksX10_spans_4 12 rfl rfl)
theorem dX10_spans_108 : decode cX10_spans 108 = .ok (.goto 4, 3) := dk_167 0 4 (dk_at dksX10_spans_4 13 rfl rfl)
theorem dX10_spans_111 : decode cX10_spans 111 = .ok (.iconst 0, 1) := dk_3 (dk_at dksX10_spans_4 16 rfl rfl)
theorem dX10_spans_112 : decode cX10_spans 112 = .ok (.istore 4, 2) := dk_54 4 (dk_at dksX10_spans_4 17 rfl rfl)
theorem dX10_spans_114 : decode cX10_spans 114 = .ok (.iinc 5 (-1), 3) := dk_132 5 255 (dk_at dksX10_spans_4 19 rfl rfl)
theorem dX10_spans_117 : decode cX10_spans 117 = .ok (.goto (-84), 3) := dk_167 255 172 (dk_at dksX10_spans_5 0 rfl rfl)
theorem dX10_spans_120 : decode cX10_spans 120 = .ok (.iload_n 2, 1) := dk_28 (dk_at dksX10_spans_5 3 rfl rfl)
theorem dX10_spans_121 : decode cX10_spans 121 = .ok (.iconst (-1), 1) := dk_2 (dk_at dksX10_spans_5 4 rfl rfl)
theorem dX10_spans_122 : decode cX10_spans 122 = .ok (.if_icmp .ne 7, 3) := dk_160 0 7 (dk_at dksX10_spans_5 5 rfl rfl)
theorem dX10_spans_125 : decode cX10_spans 125 = .ok (.iload_n 3, 1) := dk_29 (dk_at dksX10_spans_5 8 rfl rfl)
theorem dX10_spans_126 : decode cX10_spans 126 = .ok (.goto 8, 3) := dk_167 0 8 (dk_at dksX10_spans_5 9 rfl rfl)
theorem dX10_spans_129 : decode cX10_spans 129 = .ok (.aload_n 0, 1) := dk_42 (dk_at dksX10_spans_5 12 rfl rfl)
theorem dX10_spans_130 : decode cX10_spans 130 = .ok (.iconst 1, 1) := dk_4 (dk_at dksX10_spans_5 13 rfl rfl)
theorem dX10_spans_131 : decode cX10_spans 131 = .ok (.invokevirtual 250, 3) := dk_182 0 250 (dk_at dksX10_spans_5 14 rfl rfl)
theorem dX10_spans_134 : decode cX10_spans 134 = .ok (.ireturn, 1) := dk_172 (dk_at dksX10_spans_5 17 rfl rfl)
abbrev cX10_sample : ByteArray := prog_22_method_64_code
def yX10_sample : MethodName := ⟨RX10, "sample", "(I)I"⟩
def dkwX10_sample_1 : List UInt8 := [182, 1, 115, 167, 0, 8, 42, 4, 182, 0, 250, 172]
abbrev dktX10_sample_1 : List UInt8 := dkwX10_sample_1 ++ []
def dkwX10_sample_0 : List UInt8 := [42, 182, 0, 247, 27, 133, 9, 42, 182, 1, 99, 4, 100, 133, 184, 1, 102, 153, 0, 11, 42, 27]
abbrev dktX10_sample_0 : List UInt8 := dkwX10_sample_0 ++ dktX10_sample_1
theorem dksX10_sample_0 : cX10_sample.data.toList.drop 0 = dktX10_sample_0 := by decide +kernel
theorem dksX10_sample_1 : cX10_sample.data.toList.drop 22 = dktX10_sample_1 := dk_seg dksX10_sample_0 22 rfl rfl
theorem dX10_sample_0 : decode cX10_sample 0 = .ok (.aload_n 0, 1) := dk_42 (dk_at dksX10_sample_0 0 rfl rfl)
theorem dX10_sample_1 : decode cX10_sample 1 = .ok (.invokevirtual 247, 3) := dk_182 0 247 (dk_at dksX10_sample_0 1 rfl rfl)
theorem dX10_sample_4 : decode cX10_sample 4 = .ok (.iload_n 1, 1) := dk_27 (dk_at dksX10_sample_0 4 rfl rfl)
theorem dX10_sample_5 : decode cX10_sample 5 = .ok (.i2l, 1) := dk_133 (dk_at dksX10_sample_0 5 rfl rfl)
theorem dX10_sample_6 : decode cX10_sample 6 = .ok (.lconst 0, 1) := dk_9 (dk_at dksX10_sample_0 6 rfl rfl)
theorem dX10_sample_7 : decode cX10_sample 7 = .ok (.aload_n 0, 1) := dk_42 (dk_at dksX10_sample_0 7 rfl rfl)
theorem dX10_sample_8 : decode cX10_sample 8 = .ok (.invokevirtual 355, 3) := dk_182 1 99 (dk_at dksX10_sample_0 8 rfl rfl)
theorem dX10_sample_11 : decode cX10_sample 11 = .ok (.iconst 1, 1) := dk_4 (dk_at dksX10_sample_0 11 rfl rfl)
theorem dX10_sample_12 : decode cX10_sample 12 = .ok (.isub, 1) := dk_100 (dk_at dksX10_sample_0 12 rfl rfl)
theorem dX10_sample_13 : decode cX10_sample 13 = .ok (.i2l, 1) := dk_133 (dk_at dksX10_sample_0 13 rfl rfl)
theorem dX10_sample_14 : decode cX10_sample 14 = .ok (.invokestatic 358, 3) := dk_184 1 102 (dk_at dksX10_sample_0 14 rfl rfl)
theorem dX10_sample_17 : decode cX10_sample 17 = .ok (.ifCond .eq 11, 3) := dk_153 0 11 (dk_at dksX10_sample_0 17 rfl rfl)
theorem dX10_sample_20 : decode cX10_sample 20 = .ok (.aload_n 0, 1) := dk_42 (dk_at dksX10_sample_0 20 rfl rfl)
theorem dX10_sample_21 : decode cX10_sample 21 = .ok (.iload_n 1, 1) := dk_27 (dk_at dksX10_sample_0 21 rfl rfl)
theorem dX10_sample_22 : decode cX10_sample 22 = .ok (.invokevirtual 371, 3) := dk_182 1 115 (dk_at dksX10_sample_1 0 rfl rfl)
theorem dX10_sample_25 : decode cX10_sample 25 = .ok (.goto 8, 3) := dk_167 0 8 (dk_at dksX10_sample_1 3 rfl rfl)
theorem dX10_sample_28 : decode cX10_sample 28 = .ok (.aload_n 0, 1) := dk_42 (dk_at dksX10_sample_1 6 rfl rfl)
theorem dX10_sample_29 : decode cX10_sample 29 = .ok (.iconst 1, 1) := dk_4 (dk_at dksX10_sample_1 7 rfl rfl)
theorem dX10_sample_30 : decode cX10_sample 30 = .ok (.invokevirtual 250, 3) := dk_182 0 250 (dk_at dksX10_sample_1 8 rfl rfl)
theorem dX10_sample_33 : decode cX10_sample 33 = .ok (.ireturn, 1) := dk_172 (dk_at dksX10_sample_1 11 rfl rfl)
abbrev cX10_sampleAt : ByteArray := prog_22_method_63_code
def yX10_sampleAt : MethodName := ⟨RX10, "sampleAt", "(I)I"⟩
def dkwX10_sampleAt_1 : List UInt8 := [112, 96, 46, 172]
abbrev dktX10_sampleAt_1 : List UInt8 := dkwX10_sampleAt_1 ++ []
def dkwX10_sampleAt_0 : List UInt8 := [42, 180, 0, 59, 17, 1, 25, 42, 180, 0, 59, 16, 32, 46, 42, 182, 1, 99, 100, 27, 96, 17, 0, 128]
abbrev dktX10_sampleAt_0 : List UInt8 := dkwX10_sampleAt_0 ++ dktX10_sampleAt_1
theorem dksX10_sampleAt_0 : cX10_sampleAt.data.toList.drop 0 = dktX10_sampleAt_0 := by decide +kernel
theorem dksX10_sampleAt_1 : cX10_sampleAt.data.toList.drop 24 = dktX10_sampleAt_1 := dk_seg dksX10_sampleAt_0 24 rfl rfl
theorem dX10_sampleAt_0 : decode cX10_sampleAt 0 = .ok (.aload_n 0, 1) := dk_42 (dk_at dksX10_sampleAt_0 0 rfl rfl)
theorem dX10_sampleAt_1 : decode cX10_sampleAt 1 = .ok (.getfield 59, 3) := dk_180 0 59 (dk_at dksX10_sampleAt_0 1 rfl rfl)
theorem dX10_sampleAt_4 : decode cX10_sampleAt 4 = .ok (.sipush 281, 3) := dk_17 1 25 (dk_at dksX10_sampleAt_0 4 rfl rfl)
theorem dX10_sampleAt_7 : decode cX10_sampleAt 7 = .ok (.aload_n 0, 1) := dk_42 (dk_at dksX10_sampleAt_0 7 rfl rfl)
theorem dX10_sampleAt_8 : decode cX10_sampleAt 8 = .ok (.getfield 59, 3) := dk_180 0 59 (dk_at dksX10_sampleAt_0 8 rfl rfl)
theorem dX10_sampleAt_11 : decode cX10_sampleAt 11 = .ok (.bipush 32, 2) := dk_16 32 (dk_at dksX10_sampleAt_0 11 rfl rfl)
theorem dX10_sampleAt_13 : decode cX10_sampleAt 13 = .ok (.iaload, 1) := dk_46 (dk_at dksX10_sampleAt_0 13 rfl rfl)
theorem dX10_sampleAt_14 : decode cX10_sampleAt 14 = .ok (.aload_n 0, 1) := dk_42 (dk_at dksX10_sampleAt_0 14 rfl rfl)
theorem dX10_sampleAt_15 : decode cX10_sampleAt 15 = .ok (.invokevirtual 355, 3) := dk_182 1 99 (dk_at dksX10_sampleAt_0 15 rfl rfl)
theorem dX10_sampleAt_18 : decode cX10_sampleAt 18 = .ok (.isub, 1) := dk_100 (dk_at dksX10_sampleAt_0 18 rfl rfl)
theorem dX10_sampleAt_19 : decode cX10_sampleAt 19 = .ok (.iload_n 1, 1) := dk_27 (dk_at dksX10_sampleAt_0 19 rfl rfl)
theorem dX10_sampleAt_20 : decode cX10_sampleAt 20 = .ok (.iadd, 1) := dk_96 (dk_at dksX10_sampleAt_0 20 rfl rfl)
theorem dX10_sampleAt_21 : decode cX10_sampleAt 21 = .ok (.sipush 128, 3) := dk_17 0 128 (dk_at dksX10_sampleAt_0 21 rfl rfl)
theorem dX10_sampleAt_24 : decode cX10_sampleAt 24 = .ok (.irem, 1) := dk_112 (dk_at dksX10_sampleAt_1 0 rfl rfl)
theorem dX10_sampleAt_25 : decode cX10_sampleAt 25 = .ok (.iadd, 1) := dk_96 (dk_at dksX10_sampleAt_1 1 rfl rfl)
theorem dX10_sampleAt_26 : decode cX10_sampleAt 26 = .ok (.iaload, 1) := dk_46 (dk_at dksX10_sampleAt_1 2 rfl rfl)
theorem dX10_sampleAt_27 : decode cX10_sampleAt 27 = .ok (.ireturn, 1) := dk_172 (dk_at dksX10_sampleAt_1 3 rfl rfl)
abbrev cX10_wander : ByteArray := prog_22_method_66_code
def yX10_wander : MethodName := ⟨RX10, "wander", "(I)I"⟩
def dkwX10_wander_3 : List UInt8 := [132, 5, 1, 167, 255, 231, 21, 4, 172]
abbrev dktX10_wander_3 : List UInt8 := dkwX10_wander_3 ++ []
def dkwX10_wander_2 : List UInt8 := [21, 5, 29, 96, 28, 163, 0, 23, 21, 4, 42, 21, 5, 29, 182, 1, 120, 184, 0, 130, 54, 4]
abbrev dktX10_wander_2 : List UInt8 := dkwX10_wander_2 ++ dktX10_wander_3
def dkwX10_wander_1 : List UInt8 := [42, 182, 1, 99, 61, 28, 5, 162, 0, 5, 2, 172, 28, 27, 184, 0, 124, 62, 3, 54, 4, 3, 54, 5]
abbrev dktX10_wander_1 : List UInt8 := dkwX10_wander_1 ++ dktX10_wander_2
def dkwX10_wander_0 : List UInt8 := [42, 182, 0, 247, 27, 133, 20, 1, 106, 20, 1, 113, 184, 1, 102, 154, 0, 9, 42, 4, 182, 0, 250, 172]
abbrev dktX10_wander_0 : List UInt8 := dkwX10_wander_0 ++ dktX10_wander_1
theorem dksX10_wander_0 : cX10_wander.data.toList.drop 0 = dktX10_wander_0 := by decide +kernel
theorem dksX10_wander_1 : cX10_wander.data.toList.drop 24 = dktX10_wander_1 := dk_seg dksX10_wander_0 24 rfl rfl
theorem dksX10_wander_2 : cX10_wander.data.toList.drop 48 = dktX10_wander_2 := dk_seg dksX10_wander_1 24 rfl rfl
theorem dksX10_wander_3 : cX10_wander.data.toList.drop 70 = dktX10_wander_3 := dk_seg dksX10_wander_2 22 rfl rfl
theorem dX10_wander_0 : decode cX10_wander 0 = .ok (.aload_n 0, 1) := dk_42 (dk_at dksX10_wander_0 0 rfl rfl)
theorem dX10_wander_1 : decode cX10_wander 1 = .ok (.invokevirtual 247, 3) := dk_182 0 247 (dk_at dksX10_wander_0 1 rfl rfl)
theorem dX10_wander_4 : decode cX10_wander 4 = .ok (.iload_n 1, 1) := dk_27 (dk_at dksX10_wander_0 4 rfl rfl)
theorem dX10_wander_5 : decode cX10_wander 5 = .ok (.i2l, 1) := dk_133 (dk_at dksX10_wander_0 5 rfl rfl)
theorem dX10_wander_6 : decode cX10_wander 6 = .ok (.ldc2_w 362, 3) := dk_20 1 106 (dk_at dksX10_wander_0 6 rfl rfl)
theorem dX10_wander_9 : decode cX10_wander 9 = .ok (.ldc2_w 369, 3) := dk_20 1 113 (dk_at dksX10_wander_0 9 rfl rfl)
theorem dX10_wander_12 : decode cX10_wander 12 = .ok (.invokestatic 358, 3) := dk_184 1 102 (dk_at dksX10_wander_0 12 rfl rfl)
theorem dX10_wander_15 : decode cX10_wander 15 = .ok (.ifCond .ne 9, 3) := dk_154 0 9 (dk_at dksX10_wander_0 15 rfl rfl)
theorem dX10_wander_18 : decode cX10_wander 18 = .ok (.aload_n 0, 1) := dk_42 (dk_at dksX10_wander_0 18 rfl rfl)
theorem dX10_wander_19 : decode cX10_wander 19 = .ok (.iconst 1, 1) := dk_4 (dk_at dksX10_wander_0 19 rfl rfl)
theorem dX10_wander_20 : decode cX10_wander 20 = .ok (.invokevirtual 250, 3) := dk_182 0 250 (dk_at dksX10_wander_0 20 rfl rfl)
theorem dX10_wander_23 : decode cX10_wander 23 = .ok (.ireturn, 1) := dk_172 (dk_at dksX10_wander_0 23 rfl rfl)
theorem dX10_wander_24 : decode cX10_wander 24 = .ok (.aload_n 0, 1) := dk_42 (dk_at dksX10_wander_1 0 rfl rfl)
theorem dX10_wander_25 : decode cX10_wander 25 = .ok (.invokevirtual 355, 3) := dk_182 1 99 (dk_at dksX10_wander_1 1 rfl rfl)
theorem dX10_wander_28 : decode cX10_wander 28 = .ok (.istore_n 2, 1) := dk_61 (dk_at dksX10_wander_1 4 rfl rfl)
theorem dX10_wander_29 : decode cX10_wander 29 = .ok (.iload_n 2, 1) := dk_28 (dk_at dksX10_wander_1 5 rfl rfl)
theorem dX10_wander_30 : decode cX10_wander 30 = .ok (.iconst 2, 1) := dk_5 (dk_at dksX10_wander_1 6 rfl rfl)
theorem dX10_wander_31 : decode cX10_wander 31 = .ok (.if_icmp .ge 5, 3) := dk_162 0 5 (dk_at dksX10_wander_1 7 rfl rfl)
theorem dX10_wander_34 : decode cX10_wander 34 = .ok (.iconst (-1), 1) := dk_2 (dk_at dksX10_wander_1 10 rfl rfl)
theorem dX10_wander_35 : decode cX10_wander 35 = .ok (.ireturn, 1) := dk_172 (dk_at dksX10_wander_1 11 rfl rfl)
theorem dX10_wander_36 : decode cX10_wander 36 = .ok (.iload_n 2, 1) := dk_28 (dk_at dksX10_wander_1 12 rfl rfl)
theorem dX10_wander_37 : decode cX10_wander 37 = .ok (.iload_n 1, 1) := dk_27 (dk_at dksX10_wander_1 13 rfl rfl)
theorem dX10_wander_38 : decode cX10_wander 38 = .ok (.invokestatic 124, 3) := dk_184 0 124 (dk_at dksX10_wander_1 14 rfl rfl)
theorem dX10_wander_41 : decode cX10_wander 41 = .ok (.istore_n 3, 1) := dk_62 (dk_at dksX10_wander_1 17 rfl rfl)
theorem dX10_wander_42 : decode cX10_wander 42 = .ok (.iconst 0, 1) := dk_3 (dk_at dksX10_wander_1 18 rfl rfl)
theorem dX10_wander_43 : decode cX10_wander 43 = .ok (.istore 4, 2) := dk_54 4 (dk_at dksX10_wander_1 19 rfl rfl)
theorem dX10_wander_45 : decode cX10_wander 45 = .ok (.iconst 0, 1) := dk_3 (dk_at dksX10_wander_1 21 rfl rfl)
theorem dX10_wander_46 : decode cX10_wander 46 = .ok (.istore 5, 2) := dk_54 5 (dk_at dksX10_wander_1 22 rfl rfl)
theorem dX10_wander_48 : decode cX10_wander 48 = .ok (.iload 5, 2) := dk_21 5 (dk_at dksX10_wander_2 0 rfl rfl)
theorem dX10_wander_50 : decode cX10_wander 50 = .ok (.iload_n 3, 1) := dk_29 (dk_at dksX10_wander_2 2 rfl rfl)
theorem dX10_wander_51 : decode cX10_wander 51 = .ok (.iadd, 1) := dk_96 (dk_at dksX10_wander_2 3 rfl rfl)
theorem dX10_wander_52 : decode cX10_wander 52 = .ok (.iload_n 2, 1) := dk_28 (dk_at dksX10_wander_2 4 rfl rfl)
theorem dX10_wander_53 : decode cX10_wander 53 = .ok (.if_icmp .gt 23, 3) := dk_163 0 23 (dk_at dksX10_wander_2 5 rfl rfl)
theorem dX10_wander_56 : decode cX10_wander 56 = .ok (.iload 4, 2) := dk_21 4 (dk_at dksX10_wander_2 8 rfl rfl)
theorem dX10_wander_58 : decode cX10_wander 58 = .ok (.aload_n 0, 1) := dk_42 (dk_at dksX10_wander_2 10 rfl rfl)
theorem dX10_wander_59 : decode cX10_wander 59 = .ok (.iload 5, 2) := dk_21 5 (dk_at dksX10_wander_2 11 rfl rfl)
theorem dX10_wander_61 : decode cX10_wander 61 = .ok (.iload_n 3, 1) := dk_29 (dk_at dksX10_wander_2 13 rfl rfl)
theorem dX10_wander_62 : decode cX10_wander 62 = .ok (.invokevirtual 376, 3) := dk_182 1 120 (dk_at dksX10_wander_2 14 rfl rfl)
theorem dX10_wander_65 : decode cX10_wander 65 = .ok (.invokestatic 130, 3) := dk_184 0 130 (dk_at dksX10_wander_2 17 rfl rfl)
theorem dX10_wander_68 : decode cX10_wander 68 = .ok (.istore 4, 2) := dk_54 4 (dk_at dksX10_wander_2 20 rfl rfl)
theorem dX10_wander_70 : decode cX10_wander 70 = .ok (.iinc 5 1, 3) := dk_132 5 1 (dk_at dksX10_wander_3 0 rfl rfl)
theorem dX10_wander_73 : decode cX10_wander 73 = .ok (.goto (-25), 3) := dk_167 255 231 (dk_at dksX10_wander_3 3 rfl rfl)
theorem dX10_wander_76 : decode cX10_wander 76 = .ok (.iload 4, 2) := dk_21 4 (dk_at dksX10_wander_3 6 rfl rfl)
theorem dX10_wander_78 : decode cX10_wander 78 = .ok (.ireturn, 1) := dk_172 (dk_at dksX10_wander_3 8 rfl rfl)
abbrev cX10_rangeOf : ByteArray := prog_22_method_65_code
def yX10_rangeOf : MethodName := ⟨RX10, "rangeOf", "(II)I"⟩
def dkwX10_rangeOf_2 : List UInt8 := [167, 255, 221, 21, 4, 29, 100, 172]
abbrev dktX10_rangeOf_2 : List UInt8 := dkwX10_rangeOf_2 ++ []
def dkwX10_rangeOf_1 : List UInt8 := [182, 1, 115, 184, 0, 124, 62, 21, 4, 42, 21, 5, 182, 1, 115, 184, 0, 130, 54, 4, 132, 5, 1]
abbrev dktX10_rangeOf_1 : List UInt8 := dkwX10_rangeOf_1 ++ dktX10_rangeOf_2
def dkwX10_rangeOf_0 : List UInt8 := [19, 1, 118, 62, 19, 1, 119, 54, 4, 27, 54, 5, 21, 5, 27, 28, 96, 162, 0, 33, 29, 42, 21, 5]
abbrev dktX10_rangeOf_0 : List UInt8 := dkwX10_rangeOf_0 ++ dktX10_rangeOf_1
theorem dksX10_rangeOf_0 : cX10_rangeOf.data.toList.drop 0 = dktX10_rangeOf_0 := by decide +kernel
theorem dksX10_rangeOf_1 : cX10_rangeOf.data.toList.drop 24 = dktX10_rangeOf_1 := dk_seg dksX10_rangeOf_0 24 rfl rfl
theorem dksX10_rangeOf_2 : cX10_rangeOf.data.toList.drop 47 = dktX10_rangeOf_2 := dk_seg dksX10_rangeOf_1 23 rfl rfl
theorem dX10_rangeOf_0 : decode cX10_rangeOf 0 = .ok (.ldc_w 374, 3) := dk_19 1 118 (dk_at dksX10_rangeOf_0 0 rfl rfl)
theorem dX10_rangeOf_3 : decode cX10_rangeOf 3 = .ok (.istore_n 3, 1) := dk_62 (dk_at dksX10_rangeOf_0 3 rfl rfl)
theorem dX10_rangeOf_4 : decode cX10_rangeOf 4 = .ok (.ldc_w 375, 3) := dk_19 1 119 (dk_at dksX10_rangeOf_0 4 rfl rfl)
theorem dX10_rangeOf_7 : decode cX10_rangeOf 7 = .ok (.istore 4, 2) := dk_54 4 (dk_at dksX10_rangeOf_0 7 rfl rfl)
theorem dX10_rangeOf_9 : decode cX10_rangeOf 9 = .ok (.iload_n 1, 1) := dk_27 (dk_at dksX10_rangeOf_0 9 rfl rfl)
theorem dX10_rangeOf_10 : decode cX10_rangeOf 10 = .ok (.istore 5, 2) := dk_54 5 (dk_at dksX10_rangeOf_0 10 rfl rfl)
theorem dX10_rangeOf_12 : decode cX10_rangeOf 12 = .ok (.iload 5, 2) := dk_21 5 (dk_at dksX10_rangeOf_0 12 rfl rfl)
theorem dX10_rangeOf_14 : decode cX10_rangeOf 14 = .ok (.iload_n 1, 1) := dk_27 (dk_at dksX10_rangeOf_0 14 rfl rfl)
theorem dX10_rangeOf_15 : decode cX10_rangeOf 15 = .ok (.iload_n 2, 1) := dk_28 (dk_at dksX10_rangeOf_0 15 rfl rfl)
theorem dX10_rangeOf_16 : decode cX10_rangeOf 16 = .ok (.iadd, 1) := dk_96 (dk_at dksX10_rangeOf_0 16 rfl rfl)
theorem dX10_rangeOf_17 : decode cX10_rangeOf 17 = .ok (.if_icmp .ge 33, 3) := dk_162 0 33 (dk_at dksX10_rangeOf_0 17 rfl rfl)
theorem dX10_rangeOf_20 : decode cX10_rangeOf 20 = .ok (.iload_n 3, 1) := dk_29 (dk_at dksX10_rangeOf_0 20 rfl rfl)
theorem dX10_rangeOf_21 : decode cX10_rangeOf 21 = .ok (.aload_n 0, 1) := dk_42 (dk_at dksX10_rangeOf_0 21 rfl rfl)
theorem dX10_rangeOf_22 : decode cX10_rangeOf 22 = .ok (.iload 5, 2) := dk_21 5 (dk_at dksX10_rangeOf_0 22 rfl rfl)
theorem dX10_rangeOf_24 : decode cX10_rangeOf 24 = .ok (.invokevirtual 371, 3) := dk_182 1 115 (dk_at dksX10_rangeOf_1 0 rfl rfl)
theorem dX10_rangeOf_27 : decode cX10_rangeOf 27 = .ok (.invokestatic 124, 3) := dk_184 0 124 (dk_at dksX10_rangeOf_1 3 rfl rfl)
theorem dX10_rangeOf_30 : decode cX10_rangeOf 30 = .ok (.istore_n 3, 1) := dk_62 (dk_at dksX10_rangeOf_1 6 rfl rfl)
theorem dX10_rangeOf_31 : decode cX10_rangeOf 31 = .ok (.iload 4, 2) := dk_21 4 (dk_at dksX10_rangeOf_1 7 rfl rfl)
theorem dX10_rangeOf_33 : decode cX10_rangeOf 33 = .ok (.aload_n 0, 1) := dk_42 (dk_at dksX10_rangeOf_1 9 rfl rfl)
theorem dX10_rangeOf_34 : decode cX10_rangeOf 34 = .ok (.iload 5, 2) := dk_21 5 (dk_at dksX10_rangeOf_1 10 rfl rfl)
theorem dX10_rangeOf_36 : decode cX10_rangeOf 36 = .ok (.invokevirtual 371, 3) := dk_182 1 115 (dk_at dksX10_rangeOf_1 12 rfl rfl)
theorem dX10_rangeOf_39 : decode cX10_rangeOf 39 = .ok (.invokestatic 130, 3) := dk_184 0 130 (dk_at dksX10_rangeOf_1 15 rfl rfl)
theorem dX10_rangeOf_42 : decode cX10_rangeOf 42 = .ok (.istore 4, 2) := dk_54 4 (dk_at dksX10_rangeOf_1 18 rfl rfl)
theorem dX10_rangeOf_44 : decode cX10_rangeOf 44 = .ok (.iinc 5 1, 3) := dk_132 5 1 (dk_at dksX10_rangeOf_1 20 rfl rfl)
theorem dX10_rangeOf_47 : decode cX10_rangeOf 47 = .ok (.goto (-35), 3) := dk_167 255 221 (dk_at dksX10_rangeOf_2 0 rfl rfl)
theorem dX10_rangeOf_50 : decode cX10_rangeOf 50 = .ok (.iload 4, 2) := dk_21 4 (dk_at dksX10_rangeOf_2 3 rfl rfl)
theorem dX10_rangeOf_52 : decode cX10_rangeOf 52 = .ok (.iload_n 3, 1) := dk_29 (dk_at dksX10_rangeOf_2 5 rfl rfl)
theorem dX10_rangeOf_53 : decode cX10_rangeOf 53 = .ok (.isub, 1) := dk_100 (dk_at dksX10_rangeOf_2 6 rfl rfl)
theorem dX10_rangeOf_54 : decode cX10_rangeOf 54 = .ok (.ireturn, 1) := dk_172 (dk_at dksX10_rangeOf_2 7 rfl rfl)
abbrev cX10_steps : ByteArray := prog_22_method_70_code
def yX10_steps : MethodName := ⟨RX10, "steps", "(I)I"⟩
def dkwX10_steps_2 : List UInt8 := [180, 0, 59, 3, 46, 172]
abbrev dktX10_steps_2 : List UInt8 := dkwX10_steps_2 ++ []
def dkwX10_steps_1 : List UInt8 := [17, 78, 32, 164, 0, 9, 42, 4, 182, 1, 125, 172, 42, 182, 1, 128, 42, 27, 182, 1, 131, 42]
abbrev dktX10_steps_1 : List UInt8 := dkwX10_steps_1 ++ dktX10_steps_2
def dkwX10_steps_0 : List UInt8 := [42, 182, 0, 247, 27, 133, 10, 20, 1, 123, 184, 1, 102, 153, 0, 17, 42, 180, 0, 59, 3, 46, 27, 96]
abbrev dktX10_steps_0 : List UInt8 := dkwX10_steps_0 ++ dktX10_steps_1
theorem dksX10_steps_0 : cX10_steps.data.toList.drop 0 = dktX10_steps_0 := by decide +kernel
theorem dksX10_steps_1 : cX10_steps.data.toList.drop 24 = dktX10_steps_1 := dk_seg dksX10_steps_0 24 rfl rfl
theorem dksX10_steps_2 : cX10_steps.data.toList.drop 46 = dktX10_steps_2 := dk_seg dksX10_steps_1 22 rfl rfl
theorem dX10_steps_0 : decode cX10_steps 0 = .ok (.aload_n 0, 1) := dk_42 (dk_at dksX10_steps_0 0 rfl rfl)
theorem dX10_steps_1 : decode cX10_steps 1 = .ok (.invokevirtual 247, 3) := dk_182 0 247 (dk_at dksX10_steps_0 1 rfl rfl)
theorem dX10_steps_4 : decode cX10_steps 4 = .ok (.iload_n 1, 1) := dk_27 (dk_at dksX10_steps_0 4 rfl rfl)
theorem dX10_steps_5 : decode cX10_steps 5 = .ok (.i2l, 1) := dk_133 (dk_at dksX10_steps_0 5 rfl rfl)
theorem dX10_steps_6 : decode cX10_steps 6 = .ok (.lconst 1, 1) := dk_10 (dk_at dksX10_steps_0 6 rfl rfl)
theorem dX10_steps_7 : decode cX10_steps 7 = .ok (.ldc2_w 379, 3) := dk_20 1 123 (dk_at dksX10_steps_0 7 rfl rfl)
theorem dX10_steps_10 : decode cX10_steps 10 = .ok (.invokestatic 358, 3) := dk_184 1 102 (dk_at dksX10_steps_0 10 rfl rfl)
theorem dX10_steps_13 : decode cX10_steps 13 = .ok (.ifCond .eq 17, 3) := dk_153 0 17 (dk_at dksX10_steps_0 13 rfl rfl)
theorem dX10_steps_16 : decode cX10_steps 16 = .ok (.aload_n 0, 1) := dk_42 (dk_at dksX10_steps_0 16 rfl rfl)
theorem dX10_steps_17 : decode cX10_steps 17 = .ok (.getfield 59, 3) := dk_180 0 59 (dk_at dksX10_steps_0 17 rfl rfl)
theorem dX10_steps_20 : decode cX10_steps 20 = .ok (.iconst 0, 1) := dk_3 (dk_at dksX10_steps_0 20 rfl rfl)
theorem dX10_steps_21 : decode cX10_steps 21 = .ok (.iaload, 1) := dk_46 (dk_at dksX10_steps_0 21 rfl rfl)
theorem dX10_steps_22 : decode cX10_steps 22 = .ok (.iload_n 1, 1) := dk_27 (dk_at dksX10_steps_0 22 rfl rfl)
theorem dX10_steps_23 : decode cX10_steps 23 = .ok (.iadd, 1) := dk_96 (dk_at dksX10_steps_0 23 rfl rfl)
theorem dX10_steps_24 : decode cX10_steps 24 = .ok (.sipush 20000, 3) := dk_17 78 32 (dk_at dksX10_steps_1 0 rfl rfl)
theorem dX10_steps_27 : decode cX10_steps 27 = .ok (.if_icmp .le 9, 3) := dk_164 0 9 (dk_at dksX10_steps_1 3 rfl rfl)
theorem dX10_steps_30 : decode cX10_steps 30 = .ok (.aload_n 0, 1) := dk_42 (dk_at dksX10_steps_1 6 rfl rfl)
theorem dX10_steps_31 : decode cX10_steps 31 = .ok (.iconst 1, 1) := dk_4 (dk_at dksX10_steps_1 7 rfl rfl)
theorem dX10_steps_32 : decode cX10_steps 32 = .ok (.invokevirtual 381, 3) := dk_182 1 125 (dk_at dksX10_steps_1 8 rfl rfl)
theorem dX10_steps_35 : decode cX10_steps 35 = .ok (.ireturn, 1) := dk_172 (dk_at dksX10_steps_1 11 rfl rfl)
theorem dX10_steps_36 : decode cX10_steps 36 = .ok (.aload_n 0, 1) := dk_42 (dk_at dksX10_steps_1 12 rfl rfl)
theorem dX10_steps_37 : decode cX10_steps 37 = .ok (.invokevirtual 384, 3) := dk_182 1 128 (dk_at dksX10_steps_1 13 rfl rfl)
theorem dX10_steps_40 : decode cX10_steps 40 = .ok (.aload_n 0, 1) := dk_42 (dk_at dksX10_steps_1 16 rfl rfl)
theorem dX10_steps_41 : decode cX10_steps 41 = .ok (.iload_n 1, 1) := dk_27 (dk_at dksX10_steps_1 17 rfl rfl)
theorem dX10_steps_42 : decode cX10_steps 42 = .ok (.invokevirtual 387, 3) := dk_182 1 131 (dk_at dksX10_steps_1 18 rfl rfl)
theorem dX10_steps_45 : decode cX10_steps 45 = .ok (.aload_n 0, 1) := dk_42 (dk_at dksX10_steps_1 21 rfl rfl)
theorem dX10_steps_46 : decode cX10_steps 46 = .ok (.getfield 59, 3) := dk_180 0 59 (dk_at dksX10_steps_2 0 rfl rfl)
theorem dX10_steps_49 : decode cX10_steps 49 = .ok (.iconst 0, 1) := dk_3 (dk_at dksX10_steps_2 3 rfl rfl)
theorem dX10_steps_50 : decode cX10_steps 50 = .ok (.iaload, 1) := dk_46 (dk_at dksX10_steps_2 4 rfl rfl)
theorem dX10_steps_51 : decode cX10_steps 51 = .ok (.ireturn, 1) := dk_172 (dk_at dksX10_steps_2 5 rfl rfl)
abbrev cX10_refuse : ByteArray := prog_22_method_67_code
def yX10_refuse : MethodName := ⟨RX10, "refuse", "(I)I"⟩
def dkwX10_refuse_0 : List UInt8 := [42, 180, 0, 56, 27, 92, 46, 4, 96, 79, 2, 172]
abbrev dktX10_refuse_0 : List UInt8 := dkwX10_refuse_0 ++ []
theorem dksX10_refuse_0 : cX10_refuse.data.toList.drop 0 = dktX10_refuse_0 := by decide +kernel
theorem dX10_refuse_0 : decode cX10_refuse 0 = .ok (.aload_n 0, 1) := dk_42 (dk_at dksX10_refuse_0 0 rfl rfl)
theorem dX10_refuse_1 : decode cX10_refuse 1 = .ok (.getfield 56, 3) := dk_180 0 56 (dk_at dksX10_refuse_0 1 rfl rfl)
theorem dX10_refuse_4 : decode cX10_refuse 4 = .ok (.iload_n 1, 1) := dk_27 (dk_at dksX10_refuse_0 4 rfl rfl)
theorem dX10_refuse_5 : decode cX10_refuse 5 = .ok (.dup2, 1) := dk_92 (dk_at dksX10_refuse_0 5 rfl rfl)
theorem dX10_refuse_6 : decode cX10_refuse 6 = .ok (.iaload, 1) := dk_46 (dk_at dksX10_refuse_0 6 rfl rfl)
theorem dX10_refuse_7 : decode cX10_refuse 7 = .ok (.iconst 1, 1) := dk_4 (dk_at dksX10_refuse_0 7 rfl rfl)
theorem dX10_refuse_8 : decode cX10_refuse 8 = .ok (.iadd, 1) := dk_96 (dk_at dksX10_refuse_0 8 rfl rfl)
theorem dX10_refuse_9 : decode cX10_refuse 9 = .ok (.iastore, 1) := dk_79 (dk_at dksX10_refuse_0 9 rfl rfl)
theorem dX10_refuse_10 : decode cX10_refuse 10 = .ok (.iconst (-1), 1) := dk_2 (dk_at dksX10_refuse_0 10 rfl rfl)
theorem dX10_refuse_11 : decode cX10_refuse 11 = .ok (.ireturn, 1) := dk_172 (dk_at dksX10_refuse_0 11 rfl rfl)
abbrev cX10_keep : ByteArray := prog_22_method_69_code
def yX10_keep : MethodName := ⟨RX10, "keep", "()V"⟩
def dkwX10_keep_4 : List UInt8 := [180, 1, 22, 4, 96, 181, 1, 22, 177]
abbrev dktX10_keep_4 : List UInt8 := dkwX10_keep_4 ++ []
def dkwX10_keep_3 : List UInt8 := [42, 180, 1, 22, 104, 27, 96, 42, 180, 0, 59, 27, 46, 79, 132, 1, 1, 167, 255, 225, 42, 89]
abbrev dktX10_keep_3 : List UInt8 := dkwX10_keep_3 ++ dktX10_keep_4
def dkwX10_keep_2 : List UInt8 := [180, 1, 22, 4, 100, 181, 1, 22, 3, 60, 27, 17, 2, 153, 162, 0, 30, 42, 180, 0, 85, 17, 2, 153]
abbrev dktX10_keep_2 : List UInt8 := dkwX10_keep_2 ++ dktX10_keep_3
def dkwX10_keep_1 : List UInt8 := [180, 0, 85, 27, 17, 2, 153, 100, 42, 180, 0, 85, 27, 46, 79, 132, 1, 1, 167, 255, 228, 42, 89]
abbrev dktX10_keep_1 : List UInt8 := dkwX10_keep_1 ++ dktX10_keep_2
def dkwX10_keep_0 : List UInt8 := [42, 180, 1, 22, 16, 40, 160, 0, 48, 17, 2, 153, 60, 27, 42, 180, 0, 85, 190, 162, 0, 25, 42]
abbrev dktX10_keep_0 : List UInt8 := dkwX10_keep_0 ++ dktX10_keep_1
theorem dksX10_keep_0 : cX10_keep.data.toList.drop 0 = dktX10_keep_0 := by decide +kernel
theorem dksX10_keep_1 : cX10_keep.data.toList.drop 23 = dktX10_keep_1 := dk_seg dksX10_keep_0 23 rfl rfl
theorem dksX10_keep_2 : cX10_keep.data.toList.drop 46 = dktX10_keep_2 := dk_seg dksX10_keep_1 23 rfl rfl
theorem dksX10_keep_3 : cX10_keep.data.toList.drop 70 = dktX10_keep_3 := dk_seg dksX10_keep_2 24 rfl rfl
theorem dksX10_keep_4 : cX10_keep.data.toList.drop 92 = dktX10_keep_4 := dk_seg dksX10_keep_3 22 rfl rfl
theorem dX10_keep_0 : decode cX10_keep 0 = .ok (.aload_n 0, 1) := dk_42 (dk_at dksX10_keep_0 0 rfl rfl)
theorem dX10_keep_1 : decode cX10_keep 1 = .ok (.getfield 278, 3) := dk_180 1 22 (dk_at dksX10_keep_0 1 rfl rfl)
theorem dX10_keep_4 : decode cX10_keep 4 = .ok (.bipush 40, 2) := dk_16 40 (dk_at dksX10_keep_0 4 rfl rfl)
theorem dX10_keep_6 : decode cX10_keep 6 = .ok (.if_icmp .ne 48, 3) := dk_160 0 48 (dk_at dksX10_keep_0 6 rfl rfl)
theorem dX10_keep_9 : decode cX10_keep 9 = .ok (.sipush 665, 3) := dk_17 2 153 (dk_at dksX10_keep_0 9 rfl rfl)
theorem dX10_keep_12 : decode cX10_keep 12 = .ok (.istore_n 1, 1) := dk_60 (dk_at dksX10_keep_0 12 rfl rfl)
theorem dX10_keep_13 : decode cX10_keep 13 = .ok (.iload_n 1, 1) := dk_27 (dk_at dksX10_keep_0 13 rfl rfl)
theorem dX10_keep_14 : decode cX10_keep 14 = .ok (.aload_n 0, 1) := dk_42 (dk_at dksX10_keep_0 14 rfl rfl)
theorem dX10_keep_15 : decode cX10_keep 15 = .ok (.getfield 85, 3) := dk_180 0 85 (dk_at dksX10_keep_0 15 rfl rfl)
theorem dX10_keep_18 : decode cX10_keep 18 = .ok (.arraylength, 1) := dk_190 (dk_at dksX10_keep_0 18 rfl rfl)
theorem dX10_keep_19 : decode cX10_keep 19 = .ok (.if_icmp .ge 25, 3) := dk_162 0 25 (dk_at dksX10_keep_0 19 rfl rfl)
theorem dX10_keep_22 : decode cX10_keep 22 = .ok (.aload_n 0, 1) := dk_42 (dk_at dksX10_keep_0 22 rfl rfl)
theorem dX10_keep_23 : decode cX10_keep 23 = .ok (.getfield 85, 3) := dk_180 0 85 (dk_at dksX10_keep_1 0 rfl rfl)
theorem dX10_keep_26 : decode cX10_keep 26 = .ok (.iload_n 1, 1) := dk_27 (dk_at dksX10_keep_1 3 rfl rfl)
theorem dX10_keep_27 : decode cX10_keep 27 = .ok (.sipush 665, 3) := dk_17 2 153 (dk_at dksX10_keep_1 4 rfl rfl)
theorem dX10_keep_30 : decode cX10_keep 30 = .ok (.isub, 1) := dk_100 (dk_at dksX10_keep_1 7 rfl rfl)
theorem dX10_keep_31 : decode cX10_keep 31 = .ok (.aload_n 0, 1) := dk_42 (dk_at dksX10_keep_1 8 rfl rfl)
theorem dX10_keep_32 : decode cX10_keep 32 = .ok (.getfield 85, 3) := dk_180 0 85 (dk_at dksX10_keep_1 9 rfl rfl)
theorem dX10_keep_35 : decode cX10_keep 35 = .ok (.iload_n 1, 1) := dk_27 (dk_at dksX10_keep_1 12 rfl rfl)
theorem dX10_keep_36 : decode cX10_keep 36 = .ok (.iaload, 1) := dk_46 (dk_at dksX10_keep_1 13 rfl rfl)
theorem dX10_keep_37 : decode cX10_keep 37 = .ok (.iastore, 1) := dk_79 (dk_at dksX10_keep_1 14 rfl rfl)
theorem dX10_keep_38 : decode cX10_keep 38 = .ok (.iinc 1 1, 3) := dk_132 1 1 (dk_at dksX10_keep_1 15 rfl rfl)
theorem dX10_keep_41 : decode cX10_keep 41 = .ok (.goto (-28), 3) := dk_167 255 228 (dk_at dksX10_keep_1 18 rfl rfl)
theorem dX10_keep_44 : decode cX10_keep 44 = .ok (.aload_n 0, 1) := dk_42 (dk_at dksX10_keep_1 21 rfl rfl)
theorem dX10_keep_45 : decode cX10_keep 45 = .ok (.dup, 1) := dk_89 (dk_at dksX10_keep_1 22 rfl rfl)
theorem dX10_keep_46 : decode cX10_keep 46 = .ok (.getfield 278, 3) := dk_180 1 22 (dk_at dksX10_keep_2 0 rfl rfl)
theorem dX10_keep_49 : decode cX10_keep 49 = .ok (.iconst 1, 1) := dk_4 (dk_at dksX10_keep_2 3 rfl rfl)
theorem dX10_keep_50 : decode cX10_keep 50 = .ok (.isub, 1) := dk_100 (dk_at dksX10_keep_2 4 rfl rfl)
theorem dX10_keep_51 : decode cX10_keep 51 = .ok (.putfield 278, 3) := dk_181 1 22 (dk_at dksX10_keep_2 5 rfl rfl)
theorem dX10_keep_54 : decode cX10_keep 54 = .ok (.iconst 0, 1) := dk_3 (dk_at dksX10_keep_2 8 rfl rfl)
theorem dX10_keep_55 : decode cX10_keep 55 = .ok (.istore_n 1, 1) := dk_60 (dk_at dksX10_keep_2 9 rfl rfl)
theorem dX10_keep_56 : decode cX10_keep 56 = .ok (.iload_n 1, 1) := dk_27 (dk_at dksX10_keep_2 10 rfl rfl)
theorem dX10_keep_57 : decode cX10_keep 57 = .ok (.sipush 665, 3) := dk_17 2 153 (dk_at dksX10_keep_2 11 rfl rfl)
theorem dX10_keep_60 : decode cX10_keep 60 = .ok (.if_icmp .ge 30, 3) := dk_162 0 30 (dk_at dksX10_keep_2 14 rfl rfl)
theorem dX10_keep_63 : decode cX10_keep 63 = .ok (.aload_n 0, 1) := dk_42 (dk_at dksX10_keep_2 17 rfl rfl)
theorem dX10_keep_64 : decode cX10_keep 64 = .ok (.getfield 85, 3) := dk_180 0 85 (dk_at dksX10_keep_2 18 rfl rfl)
theorem dX10_keep_67 : decode cX10_keep 67 = .ok (.sipush 665, 3) := dk_17 2 153 (dk_at dksX10_keep_2 21 rfl rfl)
theorem dX10_keep_70 : decode cX10_keep 70 = .ok (.aload_n 0, 1) := dk_42 (dk_at dksX10_keep_3 0 rfl rfl)
theorem dX10_keep_71 : decode cX10_keep 71 = .ok (.getfield 278, 3) := dk_180 1 22 (dk_at dksX10_keep_3 1 rfl rfl)
theorem dX10_keep_74 : decode cX10_keep 74 = .ok (.imul, 1) := dk_104 (dk_at dksX10_keep_3 4 rfl rfl)
theorem dX10_keep_75 : decode cX10_keep 75 = .ok (.iload_n 1, 1) := dk_27 (dk_at dksX10_keep_3 5 rfl rfl)
theorem dX10_keep_76 : decode cX10_keep 76 = .ok (.iadd, 1) := dk_96 (dk_at dksX10_keep_3 6 rfl rfl)
theorem dX10_keep_77 : decode cX10_keep 77 = .ok (.aload_n 0, 1) := dk_42 (dk_at dksX10_keep_3 7 rfl rfl)
theorem dX10_keep_78 : decode cX10_keep 78 = .ok (.getfield 59, 3) := dk_180 0 59 (dk_at dksX10_keep_3 8 rfl rfl)
theorem dX10_keep_81 : decode cX10_keep 81 = .ok (.iload_n 1, 1) := dk_27 (dk_at dksX10_keep_3 11 rfl rfl)
theorem dX10_keep_82 : decode cX10_keep 82 = .ok (.iaload, 1) := dk_46 (dk_at dksX10_keep_3 12 rfl rfl)
theorem dX10_keep_83 : decode cX10_keep 83 = .ok (.iastore, 1) := dk_79 (dk_at dksX10_keep_3 13 rfl rfl)
theorem dX10_keep_84 : decode cX10_keep 84 = .ok (.iinc 1 1, 3) := dk_132 1 1 (dk_at dksX10_keep_3 14 rfl rfl)
theorem dX10_keep_87 : decode cX10_keep 87 = .ok (.goto (-31), 3) := dk_167 255 225 (dk_at dksX10_keep_3 17 rfl rfl)
theorem dX10_keep_90 : decode cX10_keep 90 = .ok (.aload_n 0, 1) := dk_42 (dk_at dksX10_keep_3 20 rfl rfl)
theorem dX10_keep_91 : decode cX10_keep 91 = .ok (.dup, 1) := dk_89 (dk_at dksX10_keep_3 21 rfl rfl)
theorem dX10_keep_92 : decode cX10_keep 92 = .ok (.getfield 278, 3) := dk_180 1 22 (dk_at dksX10_keep_4 0 rfl rfl)
theorem dX10_keep_95 : decode cX10_keep 95 = .ok (.iconst 1, 1) := dk_4 (dk_at dksX10_keep_4 3 rfl rfl)
theorem dX10_keep_96 : decode cX10_keep 96 = .ok (.iadd, 1) := dk_96 (dk_at dksX10_keep_4 4 rfl rfl)
theorem dX10_keep_97 : decode cX10_keep 97 = .ok (.putfield 278, 3) := dk_181 1 22 (dk_at dksX10_keep_4 5 rfl rfl)
theorem dX10_keep_100 : decode cX10_keep 100 = .ok (.return_, 1) := dk_177 (dk_at dksX10_keep_4 8 rfl rfl)
abbrev cX10_goOn : ByteArray := prog_22_method_53_code
def yX10_goOn : MethodName := ⟨RX10, "goOn", "(I)V"⟩
def dkwX10_goOn_0 : List UInt8 := [3, 61, 28, 27, 162, 0, 13, 42, 182, 1, 93, 132, 2, 1, 167, 255, 244, 177]
abbrev dktX10_goOn_0 : List UInt8 := dkwX10_goOn_0 ++ []
theorem dksX10_goOn_0 : cX10_goOn.data.toList.drop 0 = dktX10_goOn_0 := by decide +kernel
theorem dX10_goOn_0 : decode cX10_goOn 0 = .ok (.iconst 0, 1) := dk_3 (dk_at dksX10_goOn_0 0 rfl rfl)
theorem dX10_goOn_1 : decode cX10_goOn 1 = .ok (.istore_n 2, 1) := dk_61 (dk_at dksX10_goOn_0 1 rfl rfl)
theorem dX10_goOn_2 : decode cX10_goOn 2 = .ok (.iload_n 2, 1) := dk_28 (dk_at dksX10_goOn_0 2 rfl rfl)
theorem dX10_goOn_3 : decode cX10_goOn 3 = .ok (.iload_n 1, 1) := dk_27 (dk_at dksX10_goOn_0 3 rfl rfl)
theorem dX10_goOn_4 : decode cX10_goOn 4 = .ok (.if_icmp .ge 13, 3) := dk_162 0 13 (dk_at dksX10_goOn_0 4 rfl rfl)
theorem dX10_goOn_7 : decode cX10_goOn 7 = .ok (.aload_n 0, 1) := dk_42 (dk_at dksX10_goOn_0 7 rfl rfl)
theorem dX10_goOn_8 : decode cX10_goOn 8 = .ok (.invokevirtual 349, 3) := dk_182 1 93 (dk_at dksX10_goOn_0 8 rfl rfl)
theorem dX10_goOn_11 : decode cX10_goOn 11 = .ok (.iinc 2 1, 3) := dk_132 2 1 (dk_at dksX10_goOn_0 11 rfl rfl)
theorem dX10_goOn_14 : decode cX10_goOn 14 = .ok (.goto (-12), 3) := dk_167 255 244 (dk_at dksX10_goOn_0 14 rfl rfl)
theorem dX10_goOn_17 : decode cX10_goOn 17 = .ok (.return_, 1) := dk_177 (dk_at dksX10_goOn_0 17 rfl rfl)
abbrev cX10_aStep : ByteArray := prog_22_method_52_code
def yX10_aStep : MethodName := ⟨RX10, "aStep", "()V"⟩
def dkwX10_aStep_5 : List UInt8 := [92, 46, 4, 96, 79, 177]
abbrev dktX10_aStep_5 : List UInt8 := dkwX10_aStep_5 ++ []
def dkwX10_aStep_4 : List UInt8 := [180, 0, 59, 16, 23, 92, 46, 17, 3, 232, 100, 79, 42, 182, 1, 90, 167, 255, 215, 42, 180, 0, 59, 3]
abbrev dktX10_aStep_4 : List UInt8 := dkwX10_aStep_4 ++ dktX10_aStep_5
def dkwX10_aStep_3 : List UInt8 := [180, 0, 59, 16, 23, 46, 17, 3, 232, 161, 0, 34, 42, 180, 0, 59, 16, 8, 46, 5, 160, 0, 23, 42]
abbrev dktX10_aStep_3 : List UInt8 := dkwX10_aStep_3 ++ dktX10_aStep_4
def dkwX10_aStep_2 : List UInt8 := [16, 11, 92, 46, 42, 180, 0, 59, 16, 27, 46, 42, 180, 0, 59, 16, 9, 46, 100, 96, 79, 42]
abbrev dktX10_aStep_2 : List UInt8 := dkwX10_aStep_2 ++ dktX10_aStep_3
def dkwX10_aStep_1 : List UInt8 := [180, 0, 59, 16, 23, 92, 46, 17, 3, 232, 42, 180, 0, 59, 16, 9, 46, 96, 96, 79, 42, 180, 0, 59]
abbrev dktX10_aStep_1 : List UInt8 := dkwX10_aStep_1 ++ dktX10_aStep_2
def dkwX10_aStep_0 : List UInt8 := [42, 182, 1, 81, 42, 182, 1, 84, 42, 182, 1, 87, 42, 180, 0, 59, 16, 8, 46, 5, 160, 0, 93, 42]
abbrev dktX10_aStep_0 : List UInt8 := dkwX10_aStep_0 ++ dktX10_aStep_1
theorem dksX10_aStep_0 : cX10_aStep.data.toList.drop 0 = dktX10_aStep_0 := by decide +kernel
theorem dksX10_aStep_1 : cX10_aStep.data.toList.drop 24 = dktX10_aStep_1 := dk_seg dksX10_aStep_0 24 rfl rfl
theorem dksX10_aStep_2 : cX10_aStep.data.toList.drop 48 = dktX10_aStep_2 := dk_seg dksX10_aStep_1 24 rfl rfl
theorem dksX10_aStep_3 : cX10_aStep.data.toList.drop 70 = dktX10_aStep_3 := dk_seg dksX10_aStep_2 22 rfl rfl
theorem dksX10_aStep_4 : cX10_aStep.data.toList.drop 94 = dktX10_aStep_4 := dk_seg dksX10_aStep_3 24 rfl rfl
theorem dksX10_aStep_5 : cX10_aStep.data.toList.drop 118 = dktX10_aStep_5 := dk_seg dksX10_aStep_4 24 rfl rfl
theorem dX10_aStep_0 : decode cX10_aStep 0 = .ok (.aload_n 0, 1) := dk_42 (dk_at dksX10_aStep_0 0 rfl rfl)
theorem dX10_aStep_1 : decode cX10_aStep 1 = .ok (.invokevirtual 337, 3) := dk_182 1 81 (dk_at dksX10_aStep_0 1 rfl rfl)
theorem dX10_aStep_4 : decode cX10_aStep 4 = .ok (.aload_n 0, 1) := dk_42 (dk_at dksX10_aStep_0 4 rfl rfl)
theorem dX10_aStep_5 : decode cX10_aStep 5 = .ok (.invokevirtual 340, 3) := dk_182 1 84 (dk_at dksX10_aStep_0 5 rfl rfl)
theorem dX10_aStep_8 : decode cX10_aStep 8 = .ok (.aload_n 0, 1) := dk_42 (dk_at dksX10_aStep_0 8 rfl rfl)
theorem dX10_aStep_9 : decode cX10_aStep 9 = .ok (.invokevirtual 343, 3) := dk_182 1 87 (dk_at dksX10_aStep_0 9 rfl rfl)
theorem dX10_aStep_12 : decode cX10_aStep 12 = .ok (.aload_n 0, 1) := dk_42 (dk_at dksX10_aStep_0 12 rfl rfl)
theorem dX10_aStep_13 : decode cX10_aStep 13 = .ok (.getfield 59, 3) := dk_180 0 59 (dk_at dksX10_aStep_0 13 rfl rfl)
theorem dX10_aStep_16 : decode cX10_aStep 16 = .ok (.bipush 8, 2) := dk_16 8 (dk_at dksX10_aStep_0 16 rfl rfl)
theorem dX10_aStep_18 : decode cX10_aStep 18 = .ok (.iaload, 1) := dk_46 (dk_at dksX10_aStep_0 18 rfl rfl)
theorem dX10_aStep_19 : decode cX10_aStep 19 = .ok (.iconst 2, 1) := dk_5 (dk_at dksX10_aStep_0 19 rfl rfl)
theorem dX10_aStep_20 : decode cX10_aStep 20 = .ok (.if_icmp .ne 93, 3) := dk_160 0 93 (dk_at dksX10_aStep_0 20 rfl rfl)
theorem dX10_aStep_23 : decode cX10_aStep 23 = .ok (.aload_n 0, 1) := dk_42 (dk_at dksX10_aStep_0 23 rfl rfl)
theorem dX10_aStep_24 : decode cX10_aStep 24 = .ok (.getfield 59, 3) := dk_180 0 59 (dk_at dksX10_aStep_1 0 rfl rfl)
theorem dX10_aStep_27 : decode cX10_aStep 27 = .ok (.bipush 23, 2) := dk_16 23 (dk_at dksX10_aStep_1 3 rfl rfl)
theorem dX10_aStep_29 : decode cX10_aStep 29 = .ok (.dup2, 1) := dk_92 (dk_at dksX10_aStep_1 5 rfl rfl)
theorem dX10_aStep_30 : decode cX10_aStep 30 = .ok (.iaload, 1) := dk_46 (dk_at dksX10_aStep_1 6 rfl rfl)
theorem dX10_aStep_31 : decode cX10_aStep 31 = .ok (.sipush 1000, 3) := dk_17 3 232 (dk_at dksX10_aStep_1 7 rfl rfl)
theorem dX10_aStep_34 : decode cX10_aStep 34 = .ok (.aload_n 0, 1) := dk_42 (dk_at dksX10_aStep_1 10 rfl rfl)
theorem dX10_aStep_35 : decode cX10_aStep 35 = .ok (.getfield 59, 3) := dk_180 0 59 (dk_at dksX10_aStep_1 11 rfl rfl)
theorem dX10_aStep_38 : decode cX10_aStep 38 = .ok (.bipush 9, 2) := dk_16 9 (dk_at dksX10_aStep_1 14 rfl rfl)
theorem dX10_aStep_40 : decode cX10_aStep 40 = .ok (.iaload, 1) := dk_46 (dk_at dksX10_aStep_1 16 rfl rfl)
theorem dX10_aStep_41 : decode cX10_aStep 41 = .ok (.iadd, 1) := dk_96 (dk_at dksX10_aStep_1 17 rfl rfl)
theorem dX10_aStep_42 : decode cX10_aStep 42 = .ok (.iadd, 1) := dk_96 (dk_at dksX10_aStep_1 18 rfl rfl)
theorem dX10_aStep_43 : decode cX10_aStep 43 = .ok (.iastore, 1) := dk_79 (dk_at dksX10_aStep_1 19 rfl rfl)
theorem dX10_aStep_44 : decode cX10_aStep 44 = .ok (.aload_n 0, 1) := dk_42 (dk_at dksX10_aStep_1 20 rfl rfl)
theorem dX10_aStep_45 : decode cX10_aStep 45 = .ok (.getfield 59, 3) := dk_180 0 59 (dk_at dksX10_aStep_1 21 rfl rfl)
theorem dX10_aStep_48 : decode cX10_aStep 48 = .ok (.bipush 11, 2) := dk_16 11 (dk_at dksX10_aStep_2 0 rfl rfl)
theorem dX10_aStep_50 : decode cX10_aStep 50 = .ok (.dup2, 1) := dk_92 (dk_at dksX10_aStep_2 2 rfl rfl)
theorem dX10_aStep_51 : decode cX10_aStep 51 = .ok (.iaload, 1) := dk_46 (dk_at dksX10_aStep_2 3 rfl rfl)
theorem dX10_aStep_52 : decode cX10_aStep 52 = .ok (.aload_n 0, 1) := dk_42 (dk_at dksX10_aStep_2 4 rfl rfl)
theorem dX10_aStep_53 : decode cX10_aStep 53 = .ok (.getfield 59, 3) := dk_180 0 59 (dk_at dksX10_aStep_2 5 rfl rfl)
theorem dX10_aStep_56 : decode cX10_aStep 56 = .ok (.bipush 27, 2) := dk_16 27 (dk_at dksX10_aStep_2 8 rfl rfl)
theorem dX10_aStep_58 : decode cX10_aStep 58 = .ok (.iaload, 1) := dk_46 (dk_at dksX10_aStep_2 10 rfl rfl)
theorem dX10_aStep_59 : decode cX10_aStep 59 = .ok (.aload_n 0, 1) := dk_42 (dk_at dksX10_aStep_2 11 rfl rfl)
theorem dX10_aStep_60 : decode cX10_aStep 60 = .ok (.getfield 59, 3) := dk_180 0 59 (dk_at dksX10_aStep_2 12 rfl rfl)
theorem dX10_aStep_63 : decode cX10_aStep 63 = .ok (.bipush 9, 2) := dk_16 9 (dk_at dksX10_aStep_2 15 rfl rfl)
theorem dX10_aStep_65 : decode cX10_aStep 65 = .ok (.iaload, 1) := dk_46 (dk_at dksX10_aStep_2 17 rfl rfl)
theorem dX10_aStep_66 : decode cX10_aStep 66 = .ok (.isub, 1) := dk_100 (dk_at dksX10_aStep_2 18 rfl rfl)
theorem dX10_aStep_67 : decode cX10_aStep 67 = .ok (.iadd, 1) := dk_96 (dk_at dksX10_aStep_2 19 rfl rfl)
theorem dX10_aStep_68 : decode cX10_aStep 68 = .ok (.iastore, 1) := dk_79 (dk_at dksX10_aStep_2 20 rfl rfl)
theorem dX10_aStep_69 : decode cX10_aStep 69 = .ok (.aload_n 0, 1) := dk_42 (dk_at dksX10_aStep_2 21 rfl rfl)
theorem dX10_aStep_70 : decode cX10_aStep 70 = .ok (.getfield 59, 3) := dk_180 0 59 (dk_at dksX10_aStep_3 0 rfl rfl)
theorem dX10_aStep_73 : decode cX10_aStep 73 = .ok (.bipush 23, 2) := dk_16 23 (dk_at dksX10_aStep_3 3 rfl rfl)
theorem dX10_aStep_75 : decode cX10_aStep 75 = .ok (.iaload, 1) := dk_46 (dk_at dksX10_aStep_3 5 rfl rfl)
theorem dX10_aStep_76 : decode cX10_aStep 76 = .ok (.sipush 1000, 3) := dk_17 3 232 (dk_at dksX10_aStep_3 6 rfl rfl)
theorem dX10_aStep_79 : decode cX10_aStep 79 = .ok (.if_icmp .lt 34, 3) := dk_161 0 34 (dk_at dksX10_aStep_3 9 rfl rfl)
theorem dX10_aStep_82 : decode cX10_aStep 82 = .ok (.aload_n 0, 1) := dk_42 (dk_at dksX10_aStep_3 12 rfl rfl)
theorem dX10_aStep_83 : decode cX10_aStep 83 = .ok (.getfield 59, 3) := dk_180 0 59 (dk_at dksX10_aStep_3 13 rfl rfl)
theorem dX10_aStep_86 : decode cX10_aStep 86 = .ok (.bipush 8, 2) := dk_16 8 (dk_at dksX10_aStep_3 16 rfl rfl)
theorem dX10_aStep_88 : decode cX10_aStep 88 = .ok (.iaload, 1) := dk_46 (dk_at dksX10_aStep_3 18 rfl rfl)
theorem dX10_aStep_89 : decode cX10_aStep 89 = .ok (.iconst 2, 1) := dk_5 (dk_at dksX10_aStep_3 19 rfl rfl)
theorem dX10_aStep_90 : decode cX10_aStep 90 = .ok (.if_icmp .ne 23, 3) := dk_160 0 23 (dk_at dksX10_aStep_3 20 rfl rfl)
theorem dX10_aStep_93 : decode cX10_aStep 93 = .ok (.aload_n 0, 1) := dk_42 (dk_at dksX10_aStep_3 23 rfl rfl)
theorem dX10_aStep_94 : decode cX10_aStep 94 = .ok (.getfield 59, 3) := dk_180 0 59 (dk_at dksX10_aStep_4 0 rfl rfl)
theorem dX10_aStep_97 : decode cX10_aStep 97 = .ok (.bipush 23, 2) := dk_16 23 (dk_at dksX10_aStep_4 3 rfl rfl)
theorem dX10_aStep_99 : decode cX10_aStep 99 = .ok (.dup2, 1) := dk_92 (dk_at dksX10_aStep_4 5 rfl rfl)
theorem dX10_aStep_100 : decode cX10_aStep 100 = .ok (.iaload, 1) := dk_46 (dk_at dksX10_aStep_4 6 rfl rfl)
theorem dX10_aStep_101 : decode cX10_aStep 101 = .ok (.sipush 1000, 3) := dk_17 3 232 (dk_at dksX10_aStep_4 7 rfl rfl)
theorem dX10_aStep_104 : decode cX10_aStep 104 = .ok (.isub, 1) := dk_100 (dk_at dksX10_aStep_4 10 rfl rfl)
theorem dX10_aStep_105 : decode cX10_aStep 105 = .ok (.iastore, 1) := dk_79 (dk_at dksX10_aStep_4 11 rfl rfl)
theorem dX10_aStep_106 : decode cX10_aStep 106 = .ok (.aload_n 0, 1) := dk_42 (dk_at dksX10_aStep_4 12 rfl rfl)
theorem dX10_aStep_107 : decode cX10_aStep 107 = .ok (.invokevirtual 346, 3) := dk_182 1 90 (dk_at dksX10_aStep_4 13 rfl rfl)
theorem dX10_aStep_110 : decode cX10_aStep 110 = .ok (.goto (-41), 3) := dk_167 255 215 (dk_at dksX10_aStep_4 16 rfl rfl)
theorem dX10_aStep_113 : decode cX10_aStep 113 = .ok (.aload_n 0, 1) := dk_42 (dk_at dksX10_aStep_4 19 rfl rfl)
theorem dX10_aStep_114 : decode cX10_aStep 114 = .ok (.getfield 59, 3) := dk_180 0 59 (dk_at dksX10_aStep_4 20 rfl rfl)
theorem dX10_aStep_117 : decode cX10_aStep 117 = .ok (.iconst 0, 1) := dk_3 (dk_at dksX10_aStep_4 23 rfl rfl)
theorem dX10_aStep_118 : decode cX10_aStep 118 = .ok (.dup2, 1) := dk_92 (dk_at dksX10_aStep_5 0 rfl rfl)
theorem dX10_aStep_119 : decode cX10_aStep 119 = .ok (.iaload, 1) := dk_46 (dk_at dksX10_aStep_5 1 rfl rfl)
theorem dX10_aStep_120 : decode cX10_aStep 120 = .ok (.iconst 1, 1) := dk_4 (dk_at dksX10_aStep_5 2 rfl rfl)
theorem dX10_aStep_121 : decode cX10_aStep 121 = .ok (.iadd, 1) := dk_96 (dk_at dksX10_aStep_5 3 rfl rfl)
theorem dX10_aStep_122 : decode cX10_aStep 122 = .ok (.iastore, 1) := dk_79 (dk_at dksX10_aStep_5 4 rfl rfl)
theorem dX10_aStep_123 : decode cX10_aStep 123 = .ok (.return_, 1) := dk_177 (dk_at dksX10_aStep_5 5 rfl rfl)
abbrev cX10_makeOctets : ByteArray := prog_22_method_41_code
def yX10_makeOctets : MethodName := ⟨RX10, "makeOctets", "()V"⟩
def dkwX10_makeOctets_3 : List UInt8 := [154, 255, 207, 42, 182, 1, 59, 167, 255, 200, 177]
abbrev dktX10_makeOctets_3 : List UInt8 := dkwX10_makeOctets_3 ++ []
def dkwX10_makeOctets_2 : List UInt8 := [79, 42, 180, 0, 59, 4, 92, 46, 4, 96, 79, 42, 180, 0, 59, 4, 46, 42, 180, 0, 44, 3, 46, 112]
abbrev dktX10_makeOctets_2 : List UInt8 := dkwX10_makeOctets_2 ++ dktX10_makeOctets_3
def dkwX10_makeOctets_1 : List UInt8 := [180, 0, 59, 16, 22, 46, 17, 3, 232, 161, 0, 49, 42, 180, 0, 59, 16, 22, 92, 46, 17, 3, 232, 100]
abbrev dktX10_makeOctets_1 : List UInt8 := dkwX10_makeOctets_1 ++ dktX10_makeOctets_2
def dkwX10_makeOctets_0 : List UInt8 := [42, 180, 0, 59, 16, 22, 92, 46, 17, 3, 232, 42, 180, 0, 59, 16, 27, 46, 96, 96, 79, 42]
abbrev dktX10_makeOctets_0 : List UInt8 := dkwX10_makeOctets_0 ++ dktX10_makeOctets_1
theorem dksX10_makeOctets_0 : cX10_makeOctets.data.toList.drop 0 = dktX10_makeOctets_0 := by decide +kernel
theorem dksX10_makeOctets_1 : cX10_makeOctets.data.toList.drop 22 = dktX10_makeOctets_1 := dk_seg dksX10_makeOctets_0 22 rfl rfl
theorem dksX10_makeOctets_2 : cX10_makeOctets.data.toList.drop 46 = dktX10_makeOctets_2 := dk_seg dksX10_makeOctets_1 24 rfl rfl
theorem dksX10_makeOctets_3 : cX10_makeOctets.data.toList.drop 70 = dktX10_makeOctets_3 := dk_seg dksX10_makeOctets_2 24 rfl rfl
theorem dX10_makeOctets_0 : decode cX10_makeOctets 0 = .ok (.aload_n 0, 1) := dk_42 (dk_at dksX10_makeOctets_0 0 rfl rfl)
theorem dX10_makeOctets_1 : decode cX10_makeOctets 1 = .ok (.getfield 59, 3) := dk_180 0 59 (dk_at dksX10_makeOctets_0 1 rfl rfl)
theorem dX10_makeOctets_4 : decode cX10_makeOctets 4 = .ok (.bipush 22, 2) := dk_16 22 (dk_at dksX10_makeOctets_0 4 rfl rfl)
theorem dX10_makeOctets_6 : decode cX10_makeOctets 6 = .ok (.dup2, 1) := dk_92 (dk_at dksX10_makeOctets_0 6 rfl rfl)
theorem dX10_makeOctets_7 : decode cX10_makeOctets 7 = .ok (.iaload, 1) := dk_46 (dk_at dksX10_makeOctets_0 7 rfl rfl)
theorem dX10_makeOctets_8 : decode cX10_makeOctets 8 = .ok (.sipush 1000, 3) := dk_17 3 232 (dk_at dksX10_makeOctets_0 8 rfl rfl)
theorem dX10_makeOctets_11 : decode cX10_makeOctets 11 = .ok (.aload_n 0, 1) := dk_42 (dk_at dksX10_makeOctets_0 11 rfl rfl)
theorem dX10_makeOctets_12 : decode cX10_makeOctets 12 = .ok (.getfield 59, 3) := dk_180 0 59 (dk_at dksX10_makeOctets_0 12 rfl rfl)
theorem dX10_makeOctets_15 : decode cX10_makeOctets 15 = .ok (.bipush 27, 2) := dk_16 27 (dk_at dksX10_makeOctets_0 15 rfl rfl)
theorem dX10_makeOctets_17 : decode cX10_makeOctets 17 = .ok (.iaload, 1) := dk_46 (dk_at dksX10_makeOctets_0 17 rfl rfl)
theorem dX10_makeOctets_18 : decode cX10_makeOctets 18 = .ok (.iadd, 1) := dk_96 (dk_at dksX10_makeOctets_0 18 rfl rfl)
theorem dX10_makeOctets_19 : decode cX10_makeOctets 19 = .ok (.iadd, 1) := dk_96 (dk_at dksX10_makeOctets_0 19 rfl rfl)
theorem dX10_makeOctets_20 : decode cX10_makeOctets 20 = .ok (.iastore, 1) := dk_79 (dk_at dksX10_makeOctets_0 20 rfl rfl)
theorem dX10_makeOctets_21 : decode cX10_makeOctets 21 = .ok (.aload_n 0, 1) := dk_42 (dk_at dksX10_makeOctets_0 21 rfl rfl)
theorem dX10_makeOctets_22 : decode cX10_makeOctets 22 = .ok (.getfield 59, 3) := dk_180 0 59 (dk_at dksX10_makeOctets_1 0 rfl rfl)
theorem dX10_makeOctets_25 : decode cX10_makeOctets 25 = .ok (.bipush 22, 2) := dk_16 22 (dk_at dksX10_makeOctets_1 3 rfl rfl)
theorem dX10_makeOctets_27 : decode cX10_makeOctets 27 = .ok (.iaload, 1) := dk_46 (dk_at dksX10_makeOctets_1 5 rfl rfl)
theorem dX10_makeOctets_28 : decode cX10_makeOctets 28 = .ok (.sipush 1000, 3) := dk_17 3 232 (dk_at dksX10_makeOctets_1 6 rfl rfl)
theorem dX10_makeOctets_31 : decode cX10_makeOctets 31 = .ok (.if_icmp .lt 49, 3) := dk_161 0 49 (dk_at dksX10_makeOctets_1 9 rfl rfl)
theorem dX10_makeOctets_34 : decode cX10_makeOctets 34 = .ok (.aload_n 0, 1) := dk_42 (dk_at dksX10_makeOctets_1 12 rfl rfl)
theorem dX10_makeOctets_35 : decode cX10_makeOctets 35 = .ok (.getfield 59, 3) := dk_180 0 59 (dk_at dksX10_makeOctets_1 13 rfl rfl)
theorem dX10_makeOctets_38 : decode cX10_makeOctets 38 = .ok (.bipush 22, 2) := dk_16 22 (dk_at dksX10_makeOctets_1 16 rfl rfl)
theorem dX10_makeOctets_40 : decode cX10_makeOctets 40 = .ok (.dup2, 1) := dk_92 (dk_at dksX10_makeOctets_1 18 rfl rfl)
theorem dX10_makeOctets_41 : decode cX10_makeOctets 41 = .ok (.iaload, 1) := dk_46 (dk_at dksX10_makeOctets_1 19 rfl rfl)
theorem dX10_makeOctets_42 : decode cX10_makeOctets 42 = .ok (.sipush 1000, 3) := dk_17 3 232 (dk_at dksX10_makeOctets_1 20 rfl rfl)
theorem dX10_makeOctets_45 : decode cX10_makeOctets 45 = .ok (.isub, 1) := dk_100 (dk_at dksX10_makeOctets_1 23 rfl rfl)
theorem dX10_makeOctets_46 : decode cX10_makeOctets 46 = .ok (.iastore, 1) := dk_79 (dk_at dksX10_makeOctets_2 0 rfl rfl)
theorem dX10_makeOctets_47 : decode cX10_makeOctets 47 = .ok (.aload_n 0, 1) := dk_42 (dk_at dksX10_makeOctets_2 1 rfl rfl)
theorem dX10_makeOctets_48 : decode cX10_makeOctets 48 = .ok (.getfield 59, 3) := dk_180 0 59 (dk_at dksX10_makeOctets_2 2 rfl rfl)
theorem dX10_makeOctets_51 : decode cX10_makeOctets 51 = .ok (.iconst 1, 1) := dk_4 (dk_at dksX10_makeOctets_2 5 rfl rfl)
theorem dX10_makeOctets_52 : decode cX10_makeOctets 52 = .ok (.dup2, 1) := dk_92 (dk_at dksX10_makeOctets_2 6 rfl rfl)
theorem dX10_makeOctets_53 : decode cX10_makeOctets 53 = .ok (.iaload, 1) := dk_46 (dk_at dksX10_makeOctets_2 7 rfl rfl)
theorem dX10_makeOctets_54 : decode cX10_makeOctets 54 = .ok (.iconst 1, 1) := dk_4 (dk_at dksX10_makeOctets_2 8 rfl rfl)
theorem dX10_makeOctets_55 : decode cX10_makeOctets 55 = .ok (.iadd, 1) := dk_96 (dk_at dksX10_makeOctets_2 9 rfl rfl)
theorem dX10_makeOctets_56 : decode cX10_makeOctets 56 = .ok (.iastore, 1) := dk_79 (dk_at dksX10_makeOctets_2 10 rfl rfl)
theorem dX10_makeOctets_57 : decode cX10_makeOctets 57 = .ok (.aload_n 0, 1) := dk_42 (dk_at dksX10_makeOctets_2 11 rfl rfl)
theorem dX10_makeOctets_58 : decode cX10_makeOctets 58 = .ok (.getfield 59, 3) := dk_180 0 59 (dk_at dksX10_makeOctets_2 12 rfl rfl)
theorem dX10_makeOctets_61 : decode cX10_makeOctets 61 = .ok (.iconst 1, 1) := dk_4 (dk_at dksX10_makeOctets_2 15 rfl rfl)
theorem dX10_makeOctets_62 : decode cX10_makeOctets 62 = .ok (.iaload, 1) := dk_46 (dk_at dksX10_makeOctets_2 16 rfl rfl)
theorem dX10_makeOctets_63 : decode cX10_makeOctets 63 = .ok (.aload_n 0, 1) := dk_42 (dk_at dksX10_makeOctets_2 17 rfl rfl)
theorem dX10_makeOctets_64 : decode cX10_makeOctets 64 = .ok (.getfield 44, 3) := dk_180 0 44 (dk_at dksX10_makeOctets_2 18 rfl rfl)
theorem dX10_makeOctets_67 : decode cX10_makeOctets 67 = .ok (.iconst 0, 1) := dk_3 (dk_at dksX10_makeOctets_2 21 rfl rfl)
theorem dX10_makeOctets_68 : decode cX10_makeOctets 68 = .ok (.iaload, 1) := dk_46 (dk_at dksX10_makeOctets_2 22 rfl rfl)
theorem dX10_makeOctets_69 : decode cX10_makeOctets 69 = .ok (.irem, 1) := dk_112 (dk_at dksX10_makeOctets_2 23 rfl rfl)
theorem dX10_makeOctets_70 : decode cX10_makeOctets 70 = .ok (.ifCond .ne (-49), 3) := dk_154 255 207 (dk_at dksX10_makeOctets_3 0 rfl rfl)
theorem dX10_makeOctets_73 : decode cX10_makeOctets 73 = .ok (.aload_n 0, 1) := dk_42 (dk_at dksX10_makeOctets_3 3 rfl rfl)
theorem dX10_makeOctets_74 : decode cX10_makeOctets 74 = .ok (.invokevirtual 315, 3) := dk_182 1 59 (dk_at dksX10_makeOctets_3 4 rfl rfl)
theorem dX10_makeOctets_77 : decode cX10_makeOctets 77 = .ok (.goto (-56), 3) := dk_167 255 200 (dk_at dksX10_makeOctets_3 7 rfl rfl)
theorem dX10_makeOctets_80 : decode cX10_makeOctets 80 = .ok (.return_, 1) := dk_177 (dk_at dksX10_makeOctets_3 10 rfl rfl)
abbrev cX10_send : ByteArray := prog_22_method_40_code
def yX10_send : MethodName := ⟨RX10, "send", "()V"⟩
def dkwX10_send_8 : List UInt8 := [79, 177]
abbrev dktX10_send_8 : List UInt8 := dkwX10_send_8 ++ []
def dkwX10_send_7 : List UInt8 := [16, 31, 92, 46, 4, 96, 79, 42, 180, 0, 59, 16, 24, 27, 79, 42, 180, 0, 59, 5, 92, 46, 4, 96]
abbrev dktX10_send_7 : List UInt8 := dkwX10_send_7 ++ dktX10_send_8
def dkwX10_send_6 : List UInt8 := [79, 42, 180, 0, 59, 28, 5, 96, 42, 180, 0, 59, 3, 46, 17, 0, 255, 126, 79, 42, 180, 0, 59]
abbrev dktX10_send_6 : List UInt8 := dkwX10_send_6 ++ dktX10_send_7
def dkwX10_send_5 : List UInt8 := [79, 42, 180, 0, 59, 28, 4, 96, 42, 180, 0, 59, 3, 46, 27, 96, 42, 180, 0, 59, 16, 26, 46, 96]
abbrev dktX10_send_5 : List UInt8 := dkwX10_send_5 ++ dktX10_send_6
def dkwX10_send_4 : List UInt8 := [16, 33, 6, 42, 180, 0, 59, 16, 31, 46, 104, 96, 61, 42, 180, 0, 59, 28, 42, 180, 0, 59, 5, 46]
abbrev dktX10_send_4 : List UInt8 := dkwX10_send_4 ++ dktX10_send_5
def dkwX10_send_3 : List UInt8 := [184, 1, 52, 60, 42, 182, 1, 55, 153, 0, 16, 42, 180, 0, 59, 6, 92, 46, 4, 96, 79, 167, 0, 81]
abbrev dktX10_send_3 : List UInt8 := dkwX10_send_3 ++ dktX10_send_4
def dkwX10_send_2 : List UInt8 := [46, 79, 42, 180, 0, 44, 16, 8, 46, 154, 0, 7, 6, 167, 0, 14, 42, 3, 182, 1, 48, 3, 16, 60]
abbrev dktX10_send_2 : List UInt8 := dkwX10_send_2 ++ dktX10_send_3
def dkwX10_send_1 : List UInt8 := [42, 180, 0, 69, 5, 42, 180, 0, 59, 16, 24, 46, 79, 42, 180, 0, 69, 6, 42, 180, 0, 59, 16, 31]
abbrev dktX10_send_1 : List UInt8 := dkwX10_send_1 ++ dktX10_send_2
def dkwX10_send_0 : List UInt8 := [42, 180, 0, 69, 3, 42, 180, 0, 59, 5, 46, 79, 42, 180, 0, 69, 4, 42, 180, 0, 59, 3, 46, 79]
abbrev dktX10_send_0 : List UInt8 := dkwX10_send_0 ++ dktX10_send_1
theorem dksX10_send_0 : cX10_send.data.toList.drop 0 = dktX10_send_0 := by decide +kernel
theorem dksX10_send_1 : cX10_send.data.toList.drop 24 = dktX10_send_1 := dk_seg dksX10_send_0 24 rfl rfl
theorem dksX10_send_2 : cX10_send.data.toList.drop 48 = dktX10_send_2 := dk_seg dksX10_send_1 24 rfl rfl
theorem dksX10_send_3 : cX10_send.data.toList.drop 72 = dktX10_send_3 := dk_seg dksX10_send_2 24 rfl rfl
theorem dksX10_send_4 : cX10_send.data.toList.drop 96 = dktX10_send_4 := dk_seg dksX10_send_3 24 rfl rfl
theorem dksX10_send_5 : cX10_send.data.toList.drop 120 = dktX10_send_5 := dk_seg dksX10_send_4 24 rfl rfl
theorem dksX10_send_6 : cX10_send.data.toList.drop 144 = dktX10_send_6 := dk_seg dksX10_send_5 24 rfl rfl
theorem dksX10_send_7 : cX10_send.data.toList.drop 167 = dktX10_send_7 := dk_seg dksX10_send_6 23 rfl rfl
theorem dksX10_send_8 : cX10_send.data.toList.drop 191 = dktX10_send_8 := dk_seg dksX10_send_7 24 rfl rfl
theorem dX10_send_0 : decode cX10_send 0 = .ok (.aload_n 0, 1) := dk_42 (dk_at dksX10_send_0 0 rfl rfl)
theorem dX10_send_1 : decode cX10_send 1 = .ok (.getfield 69, 3) := dk_180 0 69 (dk_at dksX10_send_0 1 rfl rfl)
theorem dX10_send_4 : decode cX10_send 4 = .ok (.iconst 0, 1) := dk_3 (dk_at dksX10_send_0 4 rfl rfl)
theorem dX10_send_5 : decode cX10_send 5 = .ok (.aload_n 0, 1) := dk_42 (dk_at dksX10_send_0 5 rfl rfl)
theorem dX10_send_6 : decode cX10_send 6 = .ok (.getfield 59, 3) := dk_180 0 59 (dk_at dksX10_send_0 6 rfl rfl)
theorem dX10_send_9 : decode cX10_send 9 = .ok (.iconst 2, 1) := dk_5 (dk_at dksX10_send_0 9 rfl rfl)
theorem dX10_send_10 : decode cX10_send 10 = .ok (.iaload, 1) := dk_46 (dk_at dksX10_send_0 10 rfl rfl)
theorem dX10_send_11 : decode cX10_send 11 = .ok (.iastore, 1) := dk_79 (dk_at dksX10_send_0 11 rfl rfl)
theorem dX10_send_12 : decode cX10_send 12 = .ok (.aload_n 0, 1) := dk_42 (dk_at dksX10_send_0 12 rfl rfl)
theorem dX10_send_13 : decode cX10_send 13 = .ok (.getfield 69, 3) := dk_180 0 69 (dk_at dksX10_send_0 13 rfl rfl)
theorem dX10_send_16 : decode cX10_send 16 = .ok (.iconst 1, 1) := dk_4 (dk_at dksX10_send_0 16 rfl rfl)
theorem dX10_send_17 : decode cX10_send 17 = .ok (.aload_n 0, 1) := dk_42 (dk_at dksX10_send_0 17 rfl rfl)
theorem dX10_send_18 : decode cX10_send 18 = .ok (.getfield 59, 3) := dk_180 0 59 (dk_at dksX10_send_0 18 rfl rfl)
theorem dX10_send_21 : decode cX10_send 21 = .ok (.iconst 0, 1) := dk_3 (dk_at dksX10_send_0 21 rfl rfl)
theorem dX10_send_22 : decode cX10_send 22 = .ok (.iaload, 1) := dk_46 (dk_at dksX10_send_0 22 rfl rfl)
theorem dX10_send_23 : decode cX10_send 23 = .ok (.iastore, 1) := dk_79 (dk_at dksX10_send_0 23 rfl rfl)
theorem dX10_send_24 : decode cX10_send 24 = .ok (.aload_n 0, 1) := dk_42 (dk_at dksX10_send_1 0 rfl rfl)
theorem dX10_send_25 : decode cX10_send 25 = .ok (.getfield 69, 3) := dk_180 0 69 (dk_at dksX10_send_1 1 rfl rfl)
theorem dX10_send_28 : decode cX10_send 28 = .ok (.iconst 2, 1) := dk_5 (dk_at dksX10_send_1 4 rfl rfl)
theorem dX10_send_29 : decode cX10_send 29 = .ok (.aload_n 0, 1) := dk_42 (dk_at dksX10_send_1 5 rfl rfl)
theorem dX10_send_30 : decode cX10_send 30 = .ok (.getfield 59, 3) := dk_180 0 59 (dk_at dksX10_send_1 6 rfl rfl)
theorem dX10_send_33 : decode cX10_send 33 = .ok (.bipush 24, 2) := dk_16 24 (dk_at dksX10_send_1 9 rfl rfl)
theorem dX10_send_35 : decode cX10_send 35 = .ok (.iaload, 1) := dk_46 (dk_at dksX10_send_1 11 rfl rfl)
theorem dX10_send_36 : decode cX10_send 36 = .ok (.iastore, 1) := dk_79 (dk_at dksX10_send_1 12 rfl rfl)
theorem dX10_send_37 : decode cX10_send 37 = .ok (.aload_n 0, 1) := dk_42 (dk_at dksX10_send_1 13 rfl rfl)
theorem dX10_send_38 : decode cX10_send 38 = .ok (.getfield 69, 3) := dk_180 0 69 (dk_at dksX10_send_1 14 rfl rfl)
theorem dX10_send_41 : decode cX10_send 41 = .ok (.iconst 3, 1) := dk_6 (dk_at dksX10_send_1 17 rfl rfl)
theorem dX10_send_42 : decode cX10_send 42 = .ok (.aload_n 0, 1) := dk_42 (dk_at dksX10_send_1 18 rfl rfl)
theorem dX10_send_43 : decode cX10_send 43 = .ok (.getfield 59, 3) := dk_180 0 59 (dk_at dksX10_send_1 19 rfl rfl)
theorem dX10_send_46 : decode cX10_send 46 = .ok (.bipush 31, 2) := dk_16 31 (dk_at dksX10_send_1 22 rfl rfl)
theorem dX10_send_48 : decode cX10_send 48 = .ok (.iaload, 1) := dk_46 (dk_at dksX10_send_2 0 rfl rfl)
theorem dX10_send_49 : decode cX10_send 49 = .ok (.iastore, 1) := dk_79 (dk_at dksX10_send_2 1 rfl rfl)
theorem dX10_send_50 : decode cX10_send 50 = .ok (.aload_n 0, 1) := dk_42 (dk_at dksX10_send_2 2 rfl rfl)
theorem dX10_send_51 : decode cX10_send 51 = .ok (.getfield 44, 3) := dk_180 0 44 (dk_at dksX10_send_2 3 rfl rfl)
theorem dX10_send_54 : decode cX10_send 54 = .ok (.bipush 8, 2) := dk_16 8 (dk_at dksX10_send_2 6 rfl rfl)
theorem dX10_send_56 : decode cX10_send 56 = .ok (.iaload, 1) := dk_46 (dk_at dksX10_send_2 8 rfl rfl)
theorem dX10_send_57 : decode cX10_send 57 = .ok (.ifCond .ne 7, 3) := dk_154 0 7 (dk_at dksX10_send_2 9 rfl rfl)
theorem dX10_send_60 : decode cX10_send 60 = .ok (.iconst 3, 1) := dk_6 (dk_at dksX10_send_2 12 rfl rfl)
theorem dX10_send_61 : decode cX10_send 61 = .ok (.goto 14, 3) := dk_167 0 14 (dk_at dksX10_send_2 13 rfl rfl)
theorem dX10_send_64 : decode cX10_send 64 = .ok (.aload_n 0, 1) := dk_42 (dk_at dksX10_send_2 16 rfl rfl)
theorem dX10_send_65 : decode cX10_send 65 = .ok (.iconst 0, 1) := dk_3 (dk_at dksX10_send_2 17 rfl rfl)
theorem dX10_send_66 : decode cX10_send 66 = .ok (.invokevirtual 304, 3) := dk_182 1 48 (dk_at dksX10_send_2 18 rfl rfl)
theorem dX10_send_69 : decode cX10_send 69 = .ok (.iconst 0, 1) := dk_3 (dk_at dksX10_send_2 21 rfl rfl)
theorem dX10_send_70 : decode cX10_send 70 = .ok (.bipush 60, 2) := dk_16 60 (dk_at dksX10_send_2 22 rfl rfl)
theorem dX10_send_72 : decode cX10_send 72 = .ok (.invokestatic 308, 3) := dk_184 1 52 (dk_at dksX10_send_3 0 rfl rfl)
theorem dX10_send_75 : decode cX10_send 75 = .ok (.istore_n 1, 1) := dk_60 (dk_at dksX10_send_3 3 rfl rfl)
theorem dX10_send_76 : decode cX10_send 76 = .ok (.aload_n 0, 1) := dk_42 (dk_at dksX10_send_3 4 rfl rfl)
theorem dX10_send_77 : decode cX10_send 77 = .ok (.invokevirtual 311, 3) := dk_182 1 55 (dk_at dksX10_send_3 5 rfl rfl)
theorem dX10_send_80 : decode cX10_send 80 = .ok (.ifCond .eq 16, 3) := dk_153 0 16 (dk_at dksX10_send_3 8 rfl rfl)
theorem dX10_send_83 : decode cX10_send 83 = .ok (.aload_n 0, 1) := dk_42 (dk_at dksX10_send_3 11 rfl rfl)
theorem dX10_send_84 : decode cX10_send 84 = .ok (.getfield 59, 3) := dk_180 0 59 (dk_at dksX10_send_3 12 rfl rfl)
theorem dX10_send_87 : decode cX10_send 87 = .ok (.iconst 3, 1) := dk_6 (dk_at dksX10_send_3 15 rfl rfl)
theorem dX10_send_88 : decode cX10_send 88 = .ok (.dup2, 1) := dk_92 (dk_at dksX10_send_3 16 rfl rfl)
theorem dX10_send_89 : decode cX10_send 89 = .ok (.iaload, 1) := dk_46 (dk_at dksX10_send_3 17 rfl rfl)
theorem dX10_send_90 : decode cX10_send 90 = .ok (.iconst 1, 1) := dk_4 (dk_at dksX10_send_3 18 rfl rfl)
theorem dX10_send_91 : decode cX10_send 91 = .ok (.iadd, 1) := dk_96 (dk_at dksX10_send_3 19 rfl rfl)
theorem dX10_send_92 : decode cX10_send 92 = .ok (.iastore, 1) := dk_79 (dk_at dksX10_send_3 20 rfl rfl)
theorem dX10_send_93 : decode cX10_send 93 = .ok (.goto 81, 3) := dk_167 0 81 (dk_at dksX10_send_3 21 rfl rfl)
theorem dX10_send_96 : decode cX10_send 96 = .ok (.bipush 33, 2) := dk_16 33 (dk_at dksX10_send_4 0 rfl rfl)
theorem dX10_send_98 : decode cX10_send 98 = .ok (.iconst 3, 1) := dk_6 (dk_at dksX10_send_4 2 rfl rfl)
theorem dX10_send_99 : decode cX10_send 99 = .ok (.aload_n 0, 1) := dk_42 (dk_at dksX10_send_4 3 rfl rfl)
theorem dX10_send_100 : decode cX10_send 100 = .ok (.getfield 59, 3) := dk_180 0 59 (dk_at dksX10_send_4 4 rfl rfl)
theorem dX10_send_103 : decode cX10_send 103 = .ok (.bipush 31, 2) := dk_16 31 (dk_at dksX10_send_4 7 rfl rfl)
theorem dX10_send_105 : decode cX10_send 105 = .ok (.iaload, 1) := dk_46 (dk_at dksX10_send_4 9 rfl rfl)
theorem dX10_send_106 : decode cX10_send 106 = .ok (.imul, 1) := dk_104 (dk_at dksX10_send_4 10 rfl rfl)
theorem dX10_send_107 : decode cX10_send 107 = .ok (.iadd, 1) := dk_96 (dk_at dksX10_send_4 11 rfl rfl)
theorem dX10_send_108 : decode cX10_send 108 = .ok (.istore_n 2, 1) := dk_61 (dk_at dksX10_send_4 12 rfl rfl)
theorem dX10_send_109 : decode cX10_send 109 = .ok (.aload_n 0, 1) := dk_42 (dk_at dksX10_send_4 13 rfl rfl)
theorem dX10_send_110 : decode cX10_send 110 = .ok (.getfield 59, 3) := dk_180 0 59 (dk_at dksX10_send_4 14 rfl rfl)
theorem dX10_send_113 : decode cX10_send 113 = .ok (.iload_n 2, 1) := dk_28 (dk_at dksX10_send_4 17 rfl rfl)
theorem dX10_send_114 : decode cX10_send 114 = .ok (.aload_n 0, 1) := dk_42 (dk_at dksX10_send_4 18 rfl rfl)
theorem dX10_send_115 : decode cX10_send 115 = .ok (.getfield 59, 3) := dk_180 0 59 (dk_at dksX10_send_4 19 rfl rfl)
theorem dX10_send_118 : decode cX10_send 118 = .ok (.iconst 2, 1) := dk_5 (dk_at dksX10_send_4 22 rfl rfl)
theorem dX10_send_119 : decode cX10_send 119 = .ok (.iaload, 1) := dk_46 (dk_at dksX10_send_4 23 rfl rfl)
theorem dX10_send_120 : decode cX10_send 120 = .ok (.iastore, 1) := dk_79 (dk_at dksX10_send_5 0 rfl rfl)
theorem dX10_send_121 : decode cX10_send 121 = .ok (.aload_n 0, 1) := dk_42 (dk_at dksX10_send_5 1 rfl rfl)
theorem dX10_send_122 : decode cX10_send 122 = .ok (.getfield 59, 3) := dk_180 0 59 (dk_at dksX10_send_5 2 rfl rfl)
theorem dX10_send_125 : decode cX10_send 125 = .ok (.iload_n 2, 1) := dk_28 (dk_at dksX10_send_5 5 rfl rfl)
theorem dX10_send_126 : decode cX10_send 126 = .ok (.iconst 1, 1) := dk_4 (dk_at dksX10_send_5 6 rfl rfl)
theorem dX10_send_127 : decode cX10_send 127 = .ok (.iadd, 1) := dk_96 (dk_at dksX10_send_5 7 rfl rfl)
theorem dX10_send_128 : decode cX10_send 128 = .ok (.aload_n 0, 1) := dk_42 (dk_at dksX10_send_5 8 rfl rfl)
theorem dX10_send_129 : decode cX10_send 129 = .ok (.getfield 59, 3) := dk_180 0 59 (dk_at dksX10_send_5 9 rfl rfl)
theorem dX10_send_132 : decode cX10_send 132 = .ok (.iconst 0, 1) := dk_3 (dk_at dksX10_send_5 12 rfl rfl)
theorem dX10_send_133 : decode cX10_send 133 = .ok (.iaload, 1) := dk_46 (dk_at dksX10_send_5 13 rfl rfl)
theorem dX10_send_134 : decode cX10_send 134 = .ok (.iload_n 1, 1) := dk_27 (dk_at dksX10_send_5 14 rfl rfl)
theorem dX10_send_135 : decode cX10_send 135 = .ok (.iadd, 1) := dk_96 (dk_at dksX10_send_5 15 rfl rfl)
theorem dX10_send_136 : decode cX10_send 136 = .ok (.aload_n 0, 1) := dk_42 (dk_at dksX10_send_5 16 rfl rfl)
theorem dX10_send_137 : decode cX10_send 137 = .ok (.getfield 59, 3) := dk_180 0 59 (dk_at dksX10_send_5 17 rfl rfl)
theorem dX10_send_140 : decode cX10_send 140 = .ok (.bipush 26, 2) := dk_16 26 (dk_at dksX10_send_5 20 rfl rfl)
theorem dX10_send_142 : decode cX10_send 142 = .ok (.iaload, 1) := dk_46 (dk_at dksX10_send_5 22 rfl rfl)
theorem dX10_send_143 : decode cX10_send 143 = .ok (.iadd, 1) := dk_96 (dk_at dksX10_send_5 23 rfl rfl)
theorem dX10_send_144 : decode cX10_send 144 = .ok (.iastore, 1) := dk_79 (dk_at dksX10_send_6 0 rfl rfl)
theorem dX10_send_145 : decode cX10_send 145 = .ok (.aload_n 0, 1) := dk_42 (dk_at dksX10_send_6 1 rfl rfl)
theorem dX10_send_146 : decode cX10_send 146 = .ok (.getfield 59, 3) := dk_180 0 59 (dk_at dksX10_send_6 2 rfl rfl)
theorem dX10_send_149 : decode cX10_send 149 = .ok (.iload_n 2, 1) := dk_28 (dk_at dksX10_send_6 5 rfl rfl)
theorem dX10_send_150 : decode cX10_send 150 = .ok (.iconst 2, 1) := dk_5 (dk_at dksX10_send_6 6 rfl rfl)
theorem dX10_send_151 : decode cX10_send 151 = .ok (.iadd, 1) := dk_96 (dk_at dksX10_send_6 7 rfl rfl)
theorem dX10_send_152 : decode cX10_send 152 = .ok (.aload_n 0, 1) := dk_42 (dk_at dksX10_send_6 8 rfl rfl)
theorem dX10_send_153 : decode cX10_send 153 = .ok (.getfield 59, 3) := dk_180 0 59 (dk_at dksX10_send_6 9 rfl rfl)
theorem dX10_send_156 : decode cX10_send 156 = .ok (.iconst 0, 1) := dk_3 (dk_at dksX10_send_6 12 rfl rfl)
theorem dX10_send_157 : decode cX10_send 157 = .ok (.iaload, 1) := dk_46 (dk_at dksX10_send_6 13 rfl rfl)
theorem dX10_send_158 : decode cX10_send 158 = .ok (.sipush 255, 3) := dk_17 0 255 (dk_at dksX10_send_6 14 rfl rfl)
theorem dX10_send_161 : decode cX10_send 161 = .ok (.iand, 1) := dk_126 (dk_at dksX10_send_6 17 rfl rfl)
theorem dX10_send_162 : decode cX10_send 162 = .ok (.iastore, 1) := dk_79 (dk_at dksX10_send_6 18 rfl rfl)
theorem dX10_send_163 : decode cX10_send 163 = .ok (.aload_n 0, 1) := dk_42 (dk_at dksX10_send_6 19 rfl rfl)
theorem dX10_send_164 : decode cX10_send 164 = .ok (.getfield 59, 3) := dk_180 0 59 (dk_at dksX10_send_6 20 rfl rfl)
theorem dX10_send_167 : decode cX10_send 167 = .ok (.bipush 31, 2) := dk_16 31 (dk_at dksX10_send_7 0 rfl rfl)
theorem dX10_send_169 : decode cX10_send 169 = .ok (.dup2, 1) := dk_92 (dk_at dksX10_send_7 2 rfl rfl)
theorem dX10_send_170 : decode cX10_send 170 = .ok (.iaload, 1) := dk_46 (dk_at dksX10_send_7 3 rfl rfl)
theorem dX10_send_171 : decode cX10_send 171 = .ok (.iconst 1, 1) := dk_4 (dk_at dksX10_send_7 4 rfl rfl)
theorem dX10_send_172 : decode cX10_send 172 = .ok (.iadd, 1) := dk_96 (dk_at dksX10_send_7 5 rfl rfl)
theorem dX10_send_173 : decode cX10_send 173 = .ok (.iastore, 1) := dk_79 (dk_at dksX10_send_7 6 rfl rfl)
theorem dX10_send_174 : decode cX10_send 174 = .ok (.aload_n 0, 1) := dk_42 (dk_at dksX10_send_7 7 rfl rfl)
theorem dX10_send_175 : decode cX10_send 175 = .ok (.getfield 59, 3) := dk_180 0 59 (dk_at dksX10_send_7 8 rfl rfl)
theorem dX10_send_178 : decode cX10_send 178 = .ok (.bipush 24, 2) := dk_16 24 (dk_at dksX10_send_7 11 rfl rfl)
theorem dX10_send_180 : decode cX10_send 180 = .ok (.iload_n 1, 1) := dk_27 (dk_at dksX10_send_7 13 rfl rfl)
theorem dX10_send_181 : decode cX10_send 181 = .ok (.iastore, 1) := dk_79 (dk_at dksX10_send_7 14 rfl rfl)
theorem dX10_send_182 : decode cX10_send 182 = .ok (.aload_n 0, 1) := dk_42 (dk_at dksX10_send_7 15 rfl rfl)
theorem dX10_send_183 : decode cX10_send 183 = .ok (.getfield 59, 3) := dk_180 0 59 (dk_at dksX10_send_7 16 rfl rfl)
theorem dX10_send_186 : decode cX10_send 186 = .ok (.iconst 2, 1) := dk_5 (dk_at dksX10_send_7 19 rfl rfl)
theorem dX10_send_187 : decode cX10_send 187 = .ok (.dup2, 1) := dk_92 (dk_at dksX10_send_7 20 rfl rfl)
theorem dX10_send_188 : decode cX10_send 188 = .ok (.iaload, 1) := dk_46 (dk_at dksX10_send_7 21 rfl rfl)
theorem dX10_send_189 : decode cX10_send 189 = .ok (.iconst 1, 1) := dk_4 (dk_at dksX10_send_7 22 rfl rfl)
theorem dX10_send_190 : decode cX10_send 190 = .ok (.iadd, 1) := dk_96 (dk_at dksX10_send_7 23 rfl rfl)
theorem dX10_send_191 : decode cX10_send 191 = .ok (.iastore, 1) := dk_79 (dk_at dksX10_send_8 0 rfl rfl)
theorem dX10_send_192 : decode cX10_send 192 = .ok (.return_, 1) := dk_177 (dk_at dksX10_send_8 1 rfl rfl)
abbrev cX10_ruleNow : ByteArray := prog_22_method_37_code
def yX10_ruleNow : MethodName := ⟨RX10, "ruleNow", "(Z)I"⟩
def dkwX10_ruleNow_8 : List UInt8 := [180, 0, 81, 28, 4, 84, 42, 180, 0, 78, 28, 46, 172]
abbrev dktX10_ruleNow_8 : List UInt8 := dkwX10_ruleNow_8 ++ []
def dkwX10_ruleNow_7 : List UInt8 := [182, 1, 34, 167, 0, 18, 42, 42, 180, 0, 50, 42, 180, 0, 44, 16, 8, 46, 182, 1, 34, 79, 42]
abbrev dktX10_ruleNow_7 : List UInt8 := dkwX10_ruleNow_7 ++ dktX10_ruleNow_8
def dkwX10_ruleNow_6 : List UInt8 := [167, 255, 229, 42, 180, 0, 78, 28, 27, 153, 0, 21, 42, 42, 180, 0, 53, 42, 180, 0, 44, 16, 9, 46]
abbrev dktX10_ruleNow_6 : List UInt8 := dkwX10_ruleNow_6 ++ dktX10_ruleNow_7
def dkwX10_ruleNow_5 : List UInt8 := [162, 0, 27, 42, 180, 0, 75, 7, 28, 104, 21, 4, 96, 42, 180, 0, 69, 21, 4, 46, 79, 132, 4, 1]
abbrev dktX10_ruleNow_5 : List UInt8 := dkwX10_ruleNow_5 ++ dktX10_ruleNow_6
def dkwX10_ruleNow_4 : List UInt8 := [132, 4, 1, 167, 255, 216, 29, 153, 0, 10, 42, 180, 0, 78, 28, 46, 172, 3, 54, 4, 21, 4, 7]
abbrev dktX10_ruleNow_4 : List UInt8 := dkwX10_ruleNow_4 ++ dktX10_ruleNow_5
def dkwX10_ruleNow_3 : List UInt8 := [28, 104, 21, 4, 96, 46, 42, 180, 0, 69, 21, 4, 46, 160, 0, 7, 4, 167, 0, 4, 3, 62]
abbrev dktX10_ruleNow_3 : List UInt8 := dkwX10_ruleNow_3 ++ dktX10_ruleNow_4
def dkwX10_ruleNow_2 : List UInt8 := [180, 0, 81, 28, 51, 62, 3, 54, 4, 29, 153, 0, 42, 21, 4, 7, 162, 0, 36, 42, 180, 0, 75, 7]
abbrev dktX10_ruleNow_2 : List UInt8 := dkwX10_ruleNow_2 ++ dktX10_ruleNow_3
def dkwX10_ruleNow_1 : List UInt8 := [167, 255, 236, 28, 17, 3, 255, 126, 27, 153, 0, 9, 17, 4, 0, 167, 0, 4, 3, 96, 61, 42]
abbrev dktX10_ruleNow_1 : List UInt8 := dkwX10_ruleNow_1 ++ dktX10_ruleNow_2
def dkwX10_ruleNow_0 : List UInt8 := [3, 61, 3, 62, 29, 7, 162, 0, 21, 16, 31, 28, 104, 42, 180, 0, 69, 29, 46, 96, 61, 132, 3, 1]
abbrev dktX10_ruleNow_0 : List UInt8 := dkwX10_ruleNow_0 ++ dktX10_ruleNow_1
theorem dksX10_ruleNow_0 : cX10_ruleNow.data.toList.drop 0 = dktX10_ruleNow_0 := by decide +kernel
theorem dksX10_ruleNow_1 : cX10_ruleNow.data.toList.drop 24 = dktX10_ruleNow_1 := dk_seg dksX10_ruleNow_0 24 rfl rfl
theorem dksX10_ruleNow_2 : cX10_ruleNow.data.toList.drop 46 = dktX10_ruleNow_2 := dk_seg dksX10_ruleNow_1 22 rfl rfl
theorem dksX10_ruleNow_3 : cX10_ruleNow.data.toList.drop 70 = dktX10_ruleNow_3 := dk_seg dksX10_ruleNow_2 24 rfl rfl
theorem dksX10_ruleNow_4 : cX10_ruleNow.data.toList.drop 92 = dktX10_ruleNow_4 := dk_seg dksX10_ruleNow_3 22 rfl rfl
theorem dksX10_ruleNow_5 : cX10_ruleNow.data.toList.drop 115 = dktX10_ruleNow_5 := dk_seg dksX10_ruleNow_4 23 rfl rfl
theorem dksX10_ruleNow_6 : cX10_ruleNow.data.toList.drop 139 = dktX10_ruleNow_6 := dk_seg dksX10_ruleNow_5 24 rfl rfl
theorem dksX10_ruleNow_7 : cX10_ruleNow.data.toList.drop 163 = dktX10_ruleNow_7 := dk_seg dksX10_ruleNow_6 24 rfl rfl
theorem dksX10_ruleNow_8 : cX10_ruleNow.data.toList.drop 186 = dktX10_ruleNow_8 := dk_seg dksX10_ruleNow_7 23 rfl rfl
theorem dX10_ruleNow_0 : decode cX10_ruleNow 0 = .ok (.iconst 0, 1) := dk_3 (dk_at dksX10_ruleNow_0 0 rfl rfl)
theorem dX10_ruleNow_1 : decode cX10_ruleNow 1 = .ok (.istore_n 2, 1) := dk_61 (dk_at dksX10_ruleNow_0 1 rfl rfl)
theorem dX10_ruleNow_2 : decode cX10_ruleNow 2 = .ok (.iconst 0, 1) := dk_3 (dk_at dksX10_ruleNow_0 2 rfl rfl)
theorem dX10_ruleNow_3 : decode cX10_ruleNow 3 = .ok (.istore_n 3, 1) := dk_62 (dk_at dksX10_ruleNow_0 3 rfl rfl)
theorem dX10_ruleNow_4 : decode cX10_ruleNow 4 = .ok (.iload_n 3, 1) := dk_29 (dk_at dksX10_ruleNow_0 4 rfl rfl)
theorem dX10_ruleNow_5 : decode cX10_ruleNow 5 = .ok (.iconst 4, 1) := dk_7 (dk_at dksX10_ruleNow_0 5 rfl rfl)
theorem dX10_ruleNow_6 : decode cX10_ruleNow 6 = .ok (.if_icmp .ge 21, 3) := dk_162 0 21 (dk_at dksX10_ruleNow_0 6 rfl rfl)
theorem dX10_ruleNow_9 : decode cX10_ruleNow 9 = .ok (.bipush 31, 2) := dk_16 31 (dk_at dksX10_ruleNow_0 9 rfl rfl)
theorem dX10_ruleNow_11 : decode cX10_ruleNow 11 = .ok (.iload_n 2, 1) := dk_28 (dk_at dksX10_ruleNow_0 11 rfl rfl)
theorem dX10_ruleNow_12 : decode cX10_ruleNow 12 = .ok (.imul, 1) := dk_104 (dk_at dksX10_ruleNow_0 12 rfl rfl)
theorem dX10_ruleNow_13 : decode cX10_ruleNow 13 = .ok (.aload_n 0, 1) := dk_42 (dk_at dksX10_ruleNow_0 13 rfl rfl)
theorem dX10_ruleNow_14 : decode cX10_ruleNow 14 = .ok (.getfield 69, 3) := dk_180 0 69 (dk_at dksX10_ruleNow_0 14 rfl rfl)
theorem dX10_ruleNow_17 : decode cX10_ruleNow 17 = .ok (.iload_n 3, 1) := dk_29 (dk_at dksX10_ruleNow_0 17 rfl rfl)
theorem dX10_ruleNow_18 : decode cX10_ruleNow 18 = .ok (.iaload, 1) := dk_46 (dk_at dksX10_ruleNow_0 18 rfl rfl)
theorem dX10_ruleNow_19 : decode cX10_ruleNow 19 = .ok (.iadd, 1) := dk_96 (dk_at dksX10_ruleNow_0 19 rfl rfl)
theorem dX10_ruleNow_20 : decode cX10_ruleNow 20 = .ok (.istore_n 2, 1) := dk_61 (dk_at dksX10_ruleNow_0 20 rfl rfl)
theorem dX10_ruleNow_21 : decode cX10_ruleNow 21 = .ok (.iinc 3 1, 3) := dk_132 3 1 (dk_at dksX10_ruleNow_0 21 rfl rfl)
theorem dX10_ruleNow_24 : decode cX10_ruleNow 24 = .ok (.goto (-20), 3) := dk_167 255 236 (dk_at dksX10_ruleNow_1 0 rfl rfl)
theorem dX10_ruleNow_27 : decode cX10_ruleNow 27 = .ok (.iload_n 2, 1) := dk_28 (dk_at dksX10_ruleNow_1 3 rfl rfl)
theorem dX10_ruleNow_28 : decode cX10_ruleNow 28 = .ok (.sipush 1023, 3) := dk_17 3 255 (dk_at dksX10_ruleNow_1 4 rfl rfl)
theorem dX10_ruleNow_31 : decode cX10_ruleNow 31 = .ok (.iand, 1) := dk_126 (dk_at dksX10_ruleNow_1 7 rfl rfl)
theorem dX10_ruleNow_32 : decode cX10_ruleNow 32 = .ok (.iload_n 1, 1) := dk_27 (dk_at dksX10_ruleNow_1 8 rfl rfl)
theorem dX10_ruleNow_33 : decode cX10_ruleNow 33 = .ok (.ifCond .eq 9, 3) := dk_153 0 9 (dk_at dksX10_ruleNow_1 9 rfl rfl)
theorem dX10_ruleNow_36 : decode cX10_ruleNow 36 = .ok (.sipush 1024, 3) := dk_17 4 0 (dk_at dksX10_ruleNow_1 12 rfl rfl)
theorem dX10_ruleNow_39 : decode cX10_ruleNow 39 = .ok (.goto 4, 3) := dk_167 0 4 (dk_at dksX10_ruleNow_1 15 rfl rfl)
theorem dX10_ruleNow_42 : decode cX10_ruleNow 42 = .ok (.iconst 0, 1) := dk_3 (dk_at dksX10_ruleNow_1 18 rfl rfl)
theorem dX10_ruleNow_43 : decode cX10_ruleNow 43 = .ok (.iadd, 1) := dk_96 (dk_at dksX10_ruleNow_1 19 rfl rfl)
theorem dX10_ruleNow_44 : decode cX10_ruleNow 44 = .ok (.istore_n 2, 1) := dk_61 (dk_at dksX10_ruleNow_1 20 rfl rfl)
theorem dX10_ruleNow_45 : decode cX10_ruleNow 45 = .ok (.aload_n 0, 1) := dk_42 (dk_at dksX10_ruleNow_1 21 rfl rfl)
theorem dX10_ruleNow_46 : decode cX10_ruleNow 46 = .ok (.getfield 81, 3) := dk_180 0 81 (dk_at dksX10_ruleNow_2 0 rfl rfl)
theorem dX10_ruleNow_49 : decode cX10_ruleNow 49 = .ok (.iload_n 2, 1) := dk_28 (dk_at dksX10_ruleNow_2 3 rfl rfl)
theorem dX10_ruleNow_50 : decode cX10_ruleNow 50 = .ok (.baload, 1) := dk_51 (dk_at dksX10_ruleNow_2 4 rfl rfl)
theorem dX10_ruleNow_51 : decode cX10_ruleNow 51 = .ok (.istore_n 3, 1) := dk_62 (dk_at dksX10_ruleNow_2 5 rfl rfl)
theorem dX10_ruleNow_52 : decode cX10_ruleNow 52 = .ok (.iconst 0, 1) := dk_3 (dk_at dksX10_ruleNow_2 6 rfl rfl)
theorem dX10_ruleNow_53 : decode cX10_ruleNow 53 = .ok (.istore 4, 2) := dk_54 4 (dk_at dksX10_ruleNow_2 7 rfl rfl)
theorem dX10_ruleNow_55 : decode cX10_ruleNow 55 = .ok (.iload_n 3, 1) := dk_29 (dk_at dksX10_ruleNow_2 9 rfl rfl)
theorem dX10_ruleNow_56 : decode cX10_ruleNow 56 = .ok (.ifCond .eq 42, 3) := dk_153 0 42 (dk_at dksX10_ruleNow_2 10 rfl rfl)
theorem dX10_ruleNow_59 : decode cX10_ruleNow 59 = .ok (.iload 4, 2) := dk_21 4 (dk_at dksX10_ruleNow_2 13 rfl rfl)
theorem dX10_ruleNow_61 : decode cX10_ruleNow 61 = .ok (.iconst 4, 1) := dk_7 (dk_at dksX10_ruleNow_2 15 rfl rfl)
theorem dX10_ruleNow_62 : decode cX10_ruleNow 62 = .ok (.if_icmp .ge 36, 3) := dk_162 0 36 (dk_at dksX10_ruleNow_2 16 rfl rfl)
theorem dX10_ruleNow_65 : decode cX10_ruleNow 65 = .ok (.aload_n 0, 1) := dk_42 (dk_at dksX10_ruleNow_2 19 rfl rfl)
theorem dX10_ruleNow_66 : decode cX10_ruleNow 66 = .ok (.getfield 75, 3) := dk_180 0 75 (dk_at dksX10_ruleNow_2 20 rfl rfl)
theorem dX10_ruleNow_69 : decode cX10_ruleNow 69 = .ok (.iconst 4, 1) := dk_7 (dk_at dksX10_ruleNow_2 23 rfl rfl)
theorem dX10_ruleNow_70 : decode cX10_ruleNow 70 = .ok (.iload_n 2, 1) := dk_28 (dk_at dksX10_ruleNow_3 0 rfl rfl)
theorem dX10_ruleNow_71 : decode cX10_ruleNow 71 = .ok (.imul, 1) := dk_104 (dk_at dksX10_ruleNow_3 1 rfl rfl)
theorem dX10_ruleNow_72 : decode cX10_ruleNow 72 = .ok (.iload 4, 2) := dk_21 4 (dk_at dksX10_ruleNow_3 2 rfl rfl)
theorem dX10_ruleNow_74 : decode cX10_ruleNow 74 = .ok (.iadd, 1) := dk_96 (dk_at dksX10_ruleNow_3 4 rfl rfl)
theorem dX10_ruleNow_75 : decode cX10_ruleNow 75 = .ok (.iaload, 1) := dk_46 (dk_at dksX10_ruleNow_3 5 rfl rfl)
theorem dX10_ruleNow_76 : decode cX10_ruleNow 76 = .ok (.aload_n 0, 1) := dk_42 (dk_at dksX10_ruleNow_3 6 rfl rfl)
theorem dX10_ruleNow_77 : decode cX10_ruleNow 77 = .ok (.getfield 69, 3) := dk_180 0 69 (dk_at dksX10_ruleNow_3 7 rfl rfl)
theorem dX10_ruleNow_80 : decode cX10_ruleNow 80 = .ok (.iload 4, 2) := dk_21 4 (dk_at dksX10_ruleNow_3 10 rfl rfl)
theorem dX10_ruleNow_82 : decode cX10_ruleNow 82 = .ok (.iaload, 1) := dk_46 (dk_at dksX10_ruleNow_3 12 rfl rfl)
theorem dX10_ruleNow_83 : decode cX10_ruleNow 83 = .ok (.if_icmp .ne 7, 3) := dk_160 0 7 (dk_at dksX10_ruleNow_3 13 rfl rfl)
theorem dX10_ruleNow_86 : decode cX10_ruleNow 86 = .ok (.iconst 1, 1) := dk_4 (dk_at dksX10_ruleNow_3 16 rfl rfl)
theorem dX10_ruleNow_87 : decode cX10_ruleNow 87 = .ok (.goto 4, 3) := dk_167 0 4 (dk_at dksX10_ruleNow_3 17 rfl rfl)
theorem dX10_ruleNow_90 : decode cX10_ruleNow 90 = .ok (.iconst 0, 1) := dk_3 (dk_at dksX10_ruleNow_3 20 rfl rfl)
theorem dX10_ruleNow_91 : decode cX10_ruleNow 91 = .ok (.istore_n 3, 1) := dk_62 (dk_at dksX10_ruleNow_3 21 rfl rfl)
theorem dX10_ruleNow_92 : decode cX10_ruleNow 92 = .ok (.iinc 4 1, 3) := dk_132 4 1 (dk_at dksX10_ruleNow_4 0 rfl rfl)
theorem dX10_ruleNow_95 : decode cX10_ruleNow 95 = .ok (.goto (-40), 3) := dk_167 255 216 (dk_at dksX10_ruleNow_4 3 rfl rfl)
theorem dX10_ruleNow_98 : decode cX10_ruleNow 98 = .ok (.iload_n 3, 1) := dk_29 (dk_at dksX10_ruleNow_4 6 rfl rfl)
theorem dX10_ruleNow_99 : decode cX10_ruleNow 99 = .ok (.ifCond .eq 10, 3) := dk_153 0 10 (dk_at dksX10_ruleNow_4 7 rfl rfl)
theorem dX10_ruleNow_102 : decode cX10_ruleNow 102 = .ok (.aload_n 0, 1) := dk_42 (dk_at dksX10_ruleNow_4 10 rfl rfl)
theorem dX10_ruleNow_103 : decode cX10_ruleNow 103 = .ok (.getfield 78, 3) := dk_180 0 78 (dk_at dksX10_ruleNow_4 11 rfl rfl)
theorem dX10_ruleNow_106 : decode cX10_ruleNow 106 = .ok (.iload_n 2, 1) := dk_28 (dk_at dksX10_ruleNow_4 14 rfl rfl)
theorem dX10_ruleNow_107 : decode cX10_ruleNow 107 = .ok (.iaload, 1) := dk_46 (dk_at dksX10_ruleNow_4 15 rfl rfl)
theorem dX10_ruleNow_108 : decode cX10_ruleNow 108 = .ok (.ireturn, 1) := dk_172 (dk_at dksX10_ruleNow_4 16 rfl rfl)
theorem dX10_ruleNow_109 : decode cX10_ruleNow 109 = .ok (.iconst 0, 1) := dk_3 (dk_at dksX10_ruleNow_4 17 rfl rfl)
theorem dX10_ruleNow_110 : decode cX10_ruleNow 110 = .ok (.istore 4, 2) := dk_54 4 (dk_at dksX10_ruleNow_4 18 rfl rfl)
theorem dX10_ruleNow_112 : decode cX10_ruleNow 112 = .ok (.iload 4, 2) := dk_21 4 (dk_at dksX10_ruleNow_4 20 rfl rfl)
theorem dX10_ruleNow_114 : decode cX10_ruleNow 114 = .ok (.iconst 4, 1) := dk_7 (dk_at dksX10_ruleNow_4 22 rfl rfl)
theorem dX10_ruleNow_115 : decode cX10_ruleNow 115 = .ok (.if_icmp .ge 27, 3) := dk_162 0 27 (dk_at dksX10_ruleNow_5 0 rfl rfl)
theorem dX10_ruleNow_118 : decode cX10_ruleNow 118 = .ok (.aload_n 0, 1) := dk_42 (dk_at dksX10_ruleNow_5 3 rfl rfl)
theorem dX10_ruleNow_119 : decode cX10_ruleNow 119 = .ok (.getfield 75, 3) := dk_180 0 75 (dk_at dksX10_ruleNow_5 4 rfl rfl)
theorem dX10_ruleNow_122 : decode cX10_ruleNow 122 = .ok (.iconst 4, 1) := dk_7 (dk_at dksX10_ruleNow_5 7 rfl rfl)
theorem dX10_ruleNow_123 : decode cX10_ruleNow 123 = .ok (.iload_n 2, 1) := dk_28 (dk_at dksX10_ruleNow_5 8 rfl rfl)
theorem dX10_ruleNow_124 : decode cX10_ruleNow 124 = .ok (.imul, 1) := dk_104 (dk_at dksX10_ruleNow_5 9 rfl rfl)
theorem dX10_ruleNow_125 : decode cX10_ruleNow 125 = .ok (.iload 4, 2) := dk_21 4 (dk_at dksX10_ruleNow_5 10 rfl rfl)
theorem dX10_ruleNow_127 : decode cX10_ruleNow 127 = .ok (.iadd, 1) := dk_96 (dk_at dksX10_ruleNow_5 12 rfl rfl)
theorem dX10_ruleNow_128 : decode cX10_ruleNow 128 = .ok (.aload_n 0, 1) := dk_42 (dk_at dksX10_ruleNow_5 13 rfl rfl)
theorem dX10_ruleNow_129 : decode cX10_ruleNow 129 = .ok (.getfield 69, 3) := dk_180 0 69 (dk_at dksX10_ruleNow_5 14 rfl rfl)
theorem dX10_ruleNow_132 : decode cX10_ruleNow 132 = .ok (.iload 4, 2) := dk_21 4 (dk_at dksX10_ruleNow_5 17 rfl rfl)
theorem dX10_ruleNow_134 : decode cX10_ruleNow 134 = .ok (.iaload, 1) := dk_46 (dk_at dksX10_ruleNow_5 19 rfl rfl)
theorem dX10_ruleNow_135 : decode cX10_ruleNow 135 = .ok (.iastore, 1) := dk_79 (dk_at dksX10_ruleNow_5 20 rfl rfl)
theorem dX10_ruleNow_136 : decode cX10_ruleNow 136 = .ok (.iinc 4 1, 3) := dk_132 4 1 (dk_at dksX10_ruleNow_5 21 rfl rfl)
theorem dX10_ruleNow_139 : decode cX10_ruleNow 139 = .ok (.goto (-27), 3) := dk_167 255 229 (dk_at dksX10_ruleNow_6 0 rfl rfl)
theorem dX10_ruleNow_142 : decode cX10_ruleNow 142 = .ok (.aload_n 0, 1) := dk_42 (dk_at dksX10_ruleNow_6 3 rfl rfl)
theorem dX10_ruleNow_143 : decode cX10_ruleNow 143 = .ok (.getfield 78, 3) := dk_180 0 78 (dk_at dksX10_ruleNow_6 4 rfl rfl)
theorem dX10_ruleNow_146 : decode cX10_ruleNow 146 = .ok (.iload_n 2, 1) := dk_28 (dk_at dksX10_ruleNow_6 7 rfl rfl)
theorem dX10_ruleNow_147 : decode cX10_ruleNow 147 = .ok (.iload_n 1, 1) := dk_27 (dk_at dksX10_ruleNow_6 8 rfl rfl)
theorem dX10_ruleNow_148 : decode cX10_ruleNow 148 = .ok (.ifCond .eq 21, 3) := dk_153 0 21 (dk_at dksX10_ruleNow_6 9 rfl rfl)
theorem dX10_ruleNow_151 : decode cX10_ruleNow 151 = .ok (.aload_n 0, 1) := dk_42 (dk_at dksX10_ruleNow_6 12 rfl rfl)
theorem dX10_ruleNow_152 : decode cX10_ruleNow 152 = .ok (.aload_n 0, 1) := dk_42 (dk_at dksX10_ruleNow_6 13 rfl rfl)
theorem dX10_ruleNow_153 : decode cX10_ruleNow 153 = .ok (.getfield 53, 3) := dk_180 0 53 (dk_at dksX10_ruleNow_6 14 rfl rfl)
theorem dX10_ruleNow_156 : decode cX10_ruleNow 156 = .ok (.aload_n 0, 1) := dk_42 (dk_at dksX10_ruleNow_6 17 rfl rfl)
theorem dX10_ruleNow_157 : decode cX10_ruleNow 157 = .ok (.getfield 44, 3) := dk_180 0 44 (dk_at dksX10_ruleNow_6 18 rfl rfl)
theorem dX10_ruleNow_160 : decode cX10_ruleNow 160 = .ok (.bipush 9, 2) := dk_16 9 (dk_at dksX10_ruleNow_6 21 rfl rfl)
theorem dX10_ruleNow_162 : decode cX10_ruleNow 162 = .ok (.iaload, 1) := dk_46 (dk_at dksX10_ruleNow_6 23 rfl rfl)
theorem dX10_ruleNow_163 : decode cX10_ruleNow 163 = .ok (.invokevirtual 290, 3) := dk_182 1 34 (dk_at dksX10_ruleNow_7 0 rfl rfl)
theorem dX10_ruleNow_166 : decode cX10_ruleNow 166 = .ok (.goto 18, 3) := dk_167 0 18 (dk_at dksX10_ruleNow_7 3 rfl rfl)
theorem dX10_ruleNow_169 : decode cX10_ruleNow 169 = .ok (.aload_n 0, 1) := dk_42 (dk_at dksX10_ruleNow_7 6 rfl rfl)
theorem dX10_ruleNow_170 : decode cX10_ruleNow 170 = .ok (.aload_n 0, 1) := dk_42 (dk_at dksX10_ruleNow_7 7 rfl rfl)
theorem dX10_ruleNow_171 : decode cX10_ruleNow 171 = .ok (.getfield 50, 3) := dk_180 0 50 (dk_at dksX10_ruleNow_7 8 rfl rfl)
theorem dX10_ruleNow_174 : decode cX10_ruleNow 174 = .ok (.aload_n 0, 1) := dk_42 (dk_at dksX10_ruleNow_7 11 rfl rfl)
theorem dX10_ruleNow_175 : decode cX10_ruleNow 175 = .ok (.getfield 44, 3) := dk_180 0 44 (dk_at dksX10_ruleNow_7 12 rfl rfl)
theorem dX10_ruleNow_178 : decode cX10_ruleNow 178 = .ok (.bipush 8, 2) := dk_16 8 (dk_at dksX10_ruleNow_7 15 rfl rfl)
theorem dX10_ruleNow_180 : decode cX10_ruleNow 180 = .ok (.iaload, 1) := dk_46 (dk_at dksX10_ruleNow_7 17 rfl rfl)
theorem dX10_ruleNow_181 : decode cX10_ruleNow 181 = .ok (.invokevirtual 290, 3) := dk_182 1 34 (dk_at dksX10_ruleNow_7 18 rfl rfl)
theorem dX10_ruleNow_184 : decode cX10_ruleNow 184 = .ok (.iastore, 1) := dk_79 (dk_at dksX10_ruleNow_7 21 rfl rfl)
theorem dX10_ruleNow_185 : decode cX10_ruleNow 185 = .ok (.aload_n 0, 1) := dk_42 (dk_at dksX10_ruleNow_7 22 rfl rfl)
theorem dX10_ruleNow_186 : decode cX10_ruleNow 186 = .ok (.getfield 81, 3) := dk_180 0 81 (dk_at dksX10_ruleNow_8 0 rfl rfl)
theorem dX10_ruleNow_189 : decode cX10_ruleNow 189 = .ok (.iload_n 2, 1) := dk_28 (dk_at dksX10_ruleNow_8 3 rfl rfl)
theorem dX10_ruleNow_190 : decode cX10_ruleNow 190 = .ok (.iconst 1, 1) := dk_4 (dk_at dksX10_ruleNow_8 4 rfl rfl)
theorem dX10_ruleNow_191 : decode cX10_ruleNow 191 = .ok (.bastore, 1) := dk_84 (dk_at dksX10_ruleNow_8 5 rfl rfl)
theorem dX10_ruleNow_192 : decode cX10_ruleNow 192 = .ok (.aload_n 0, 1) := dk_42 (dk_at dksX10_ruleNow_8 6 rfl rfl)
theorem dX10_ruleNow_193 : decode cX10_ruleNow 193 = .ok (.getfield 78, 3) := dk_180 0 78 (dk_at dksX10_ruleNow_8 7 rfl rfl)
theorem dX10_ruleNow_196 : decode cX10_ruleNow 196 = .ok (.iload_n 2, 1) := dk_28 (dk_at dksX10_ruleNow_8 10 rfl rfl)
theorem dX10_ruleNow_197 : decode cX10_ruleNow 197 = .ok (.iaload, 1) := dk_46 (dk_at dksX10_ruleNow_8 11 rfl rfl)
theorem dX10_ruleNow_198 : decode cX10_ruleNow 198 = .ok (.ireturn, 1) := dk_172 (dk_at dksX10_ruleNow_8 12 rfl rfl)
abbrev cX10_valueNow : ByteArray := prog_22_method_38_code
def yX10_valueNow : MethodName := ⟨RX10, "valueNow", "([II)I"⟩
def dkwX10_valueNow_5 : List UInt8 := [184, 1, 38, 79, 132, 4, 1, 167, 255, 139, 42, 180, 0, 72, 3, 46, 172]
abbrev dktX10_valueNow_5 : List UInt8 := dkwX10_valueNow_5 ++ []
def dkwX10_valueNow_4 : List UInt8 := [180, 0, 72, 29, 4, 100, 21, 5, 42, 180, 0, 72, 29, 4, 100, 46, 42, 180, 0, 72, 29, 46]
abbrev dktX10_valueNow_4 : List UInt8 := dkwX10_valueNow_4 ++ dktX10_valueNow_5
def dkwX10_valueNow_3 : List UInt8 := [180, 0, 72, 29, 4, 100, 46, 153, 0, 7, 3, 167, 0, 4, 4, 79, 167, 0, 33, 132, 3, 255, 42]
abbrev dktX10_valueNow_3 : List UInt8 := dkwX10_valueNow_3 ++ dktX10_valueNow_4
def dkwX10_valueNow_2 : List UInt8 := [79, 132, 3, 1, 167, 0, 67, 21, 5, 16, 228, 160, 0, 30, 42, 180, 0, 72, 29, 4, 100, 42]
abbrev dktX10_valueNow_2 : List UInt8 := dkwX10_valueNow_2 ++ dktX10_valueNow_3
def dkwX10_valueNow_1 : List UInt8 := [42, 180, 0, 72, 29, 21, 5, 155, 0, 8, 21, 5, 167, 0, 12, 42, 180, 0, 69, 2, 21, 5, 100, 46]
abbrev dktX10_valueNow_1 : List UInt8 := dkwX10_valueNow_1 ++ dktX10_valueNow_2
def dkwX10_valueNow_0 : List UInt8 := [3, 62, 3, 54, 4, 21, 4, 28, 162, 0, 117, 43, 21, 4, 46, 54, 5, 21, 5, 16, 236, 164, 0, 34]
abbrev dktX10_valueNow_0 : List UInt8 := dkwX10_valueNow_0 ++ dktX10_valueNow_1
theorem dksX10_valueNow_0 : cX10_valueNow.data.toList.drop 0 = dktX10_valueNow_0 := by decide +kernel
theorem dksX10_valueNow_1 : cX10_valueNow.data.toList.drop 24 = dktX10_valueNow_1 := dk_seg dksX10_valueNow_0 24 rfl rfl
theorem dksX10_valueNow_2 : cX10_valueNow.data.toList.drop 48 = dktX10_valueNow_2 := dk_seg dksX10_valueNow_1 24 rfl rfl
theorem dksX10_valueNow_3 : cX10_valueNow.data.toList.drop 70 = dktX10_valueNow_3 := dk_seg dksX10_valueNow_2 22 rfl rfl
theorem dksX10_valueNow_4 : cX10_valueNow.data.toList.drop 93 = dktX10_valueNow_4 := dk_seg dksX10_valueNow_3 23 rfl rfl
theorem dksX10_valueNow_5 : cX10_valueNow.data.toList.drop 115 = dktX10_valueNow_5 := dk_seg dksX10_valueNow_4 22 rfl rfl
theorem dX10_valueNow_0 : decode cX10_valueNow 0 = .ok (.iconst 0, 1) := dk_3 (dk_at dksX10_valueNow_0 0 rfl rfl)
theorem dX10_valueNow_1 : decode cX10_valueNow 1 = .ok (.istore_n 3, 1) := dk_62 (dk_at dksX10_valueNow_0 1 rfl rfl)
theorem dX10_valueNow_2 : decode cX10_valueNow 2 = .ok (.iconst 0, 1) := dk_3 (dk_at dksX10_valueNow_0 2 rfl rfl)
theorem dX10_valueNow_3 : decode cX10_valueNow 3 = .ok (.istore 4, 2) := dk_54 4 (dk_at dksX10_valueNow_0 3 rfl rfl)
theorem dX10_valueNow_5 : decode cX10_valueNow 5 = .ok (.iload 4, 2) := dk_21 4 (dk_at dksX10_valueNow_0 5 rfl rfl)
theorem dX10_valueNow_7 : decode cX10_valueNow 7 = .ok (.iload_n 2, 1) := dk_28 (dk_at dksX10_valueNow_0 7 rfl rfl)
theorem dX10_valueNow_8 : decode cX10_valueNow 8 = .ok (.if_icmp .ge 117, 3) := dk_162 0 117 (dk_at dksX10_valueNow_0 8 rfl rfl)
theorem dX10_valueNow_11 : decode cX10_valueNow 11 = .ok (.aload_n 1, 1) := dk_43 (dk_at dksX10_valueNow_0 11 rfl rfl)
theorem dX10_valueNow_12 : decode cX10_valueNow 12 = .ok (.iload 4, 2) := dk_21 4 (dk_at dksX10_valueNow_0 12 rfl rfl)
theorem dX10_valueNow_14 : decode cX10_valueNow 14 = .ok (.iaload, 1) := dk_46 (dk_at dksX10_valueNow_0 14 rfl rfl)
theorem dX10_valueNow_15 : decode cX10_valueNow 15 = .ok (.istore 5, 2) := dk_54 5 (dk_at dksX10_valueNow_0 15 rfl rfl)
theorem dX10_valueNow_17 : decode cX10_valueNow 17 = .ok (.iload 5, 2) := dk_21 5 (dk_at dksX10_valueNow_0 17 rfl rfl)
theorem dX10_valueNow_19 : decode cX10_valueNow 19 = .ok (.bipush (-20), 2) := dk_16 236 (dk_at dksX10_valueNow_0 19 rfl rfl)
theorem dX10_valueNow_21 : decode cX10_valueNow 21 = .ok (.if_icmp .le 34, 3) := dk_164 0 34 (dk_at dksX10_valueNow_0 21 rfl rfl)
theorem dX10_valueNow_24 : decode cX10_valueNow 24 = .ok (.aload_n 0, 1) := dk_42 (dk_at dksX10_valueNow_1 0 rfl rfl)
theorem dX10_valueNow_25 : decode cX10_valueNow 25 = .ok (.getfield 72, 3) := dk_180 0 72 (dk_at dksX10_valueNow_1 1 rfl rfl)
theorem dX10_valueNow_28 : decode cX10_valueNow 28 = .ok (.iload_n 3, 1) := dk_29 (dk_at dksX10_valueNow_1 4 rfl rfl)
theorem dX10_valueNow_29 : decode cX10_valueNow 29 = .ok (.iload 5, 2) := dk_21 5 (dk_at dksX10_valueNow_1 5 rfl rfl)
theorem dX10_valueNow_31 : decode cX10_valueNow 31 = .ok (.ifCond .lt 8, 3) := dk_155 0 8 (dk_at dksX10_valueNow_1 7 rfl rfl)
theorem dX10_valueNow_34 : decode cX10_valueNow 34 = .ok (.iload 5, 2) := dk_21 5 (dk_at dksX10_valueNow_1 10 rfl rfl)
theorem dX10_valueNow_36 : decode cX10_valueNow 36 = .ok (.goto 12, 3) := dk_167 0 12 (dk_at dksX10_valueNow_1 12 rfl rfl)
theorem dX10_valueNow_39 : decode cX10_valueNow 39 = .ok (.aload_n 0, 1) := dk_42 (dk_at dksX10_valueNow_1 15 rfl rfl)
theorem dX10_valueNow_40 : decode cX10_valueNow 40 = .ok (.getfield 69, 3) := dk_180 0 69 (dk_at dksX10_valueNow_1 16 rfl rfl)
theorem dX10_valueNow_43 : decode cX10_valueNow 43 = .ok (.iconst (-1), 1) := dk_2 (dk_at dksX10_valueNow_1 19 rfl rfl)
theorem dX10_valueNow_44 : decode cX10_valueNow 44 = .ok (.iload 5, 2) := dk_21 5 (dk_at dksX10_valueNow_1 20 rfl rfl)
theorem dX10_valueNow_46 : decode cX10_valueNow 46 = .ok (.isub, 1) := dk_100 (dk_at dksX10_valueNow_1 22 rfl rfl)
theorem dX10_valueNow_47 : decode cX10_valueNow 47 = .ok (.iaload, 1) := dk_46 (dk_at dksX10_valueNow_1 23 rfl rfl)
theorem dX10_valueNow_48 : decode cX10_valueNow 48 = .ok (.iastore, 1) := dk_79 (dk_at dksX10_valueNow_2 0 rfl rfl)
theorem dX10_valueNow_49 : decode cX10_valueNow 49 = .ok (.iinc 3 1, 3) := dk_132 3 1 (dk_at dksX10_valueNow_2 1 rfl rfl)
theorem dX10_valueNow_52 : decode cX10_valueNow 52 = .ok (.goto 67, 3) := dk_167 0 67 (dk_at dksX10_valueNow_2 4 rfl rfl)
theorem dX10_valueNow_55 : decode cX10_valueNow 55 = .ok (.iload 5, 2) := dk_21 5 (dk_at dksX10_valueNow_2 7 rfl rfl)
theorem dX10_valueNow_57 : decode cX10_valueNow 57 = .ok (.bipush (-28), 2) := dk_16 228 (dk_at dksX10_valueNow_2 9 rfl rfl)
theorem dX10_valueNow_59 : decode cX10_valueNow 59 = .ok (.if_icmp .ne 30, 3) := dk_160 0 30 (dk_at dksX10_valueNow_2 11 rfl rfl)
theorem dX10_valueNow_62 : decode cX10_valueNow 62 = .ok (.aload_n 0, 1) := dk_42 (dk_at dksX10_valueNow_2 14 rfl rfl)
theorem dX10_valueNow_63 : decode cX10_valueNow 63 = .ok (.getfield 72, 3) := dk_180 0 72 (dk_at dksX10_valueNow_2 15 rfl rfl)
theorem dX10_valueNow_66 : decode cX10_valueNow 66 = .ok (.iload_n 3, 1) := dk_29 (dk_at dksX10_valueNow_2 18 rfl rfl)
theorem dX10_valueNow_67 : decode cX10_valueNow 67 = .ok (.iconst 1, 1) := dk_4 (dk_at dksX10_valueNow_2 19 rfl rfl)
theorem dX10_valueNow_68 : decode cX10_valueNow 68 = .ok (.isub, 1) := dk_100 (dk_at dksX10_valueNow_2 20 rfl rfl)
theorem dX10_valueNow_69 : decode cX10_valueNow 69 = .ok (.aload_n 0, 1) := dk_42 (dk_at dksX10_valueNow_2 21 rfl rfl)
theorem dX10_valueNow_70 : decode cX10_valueNow 70 = .ok (.getfield 72, 3) := dk_180 0 72 (dk_at dksX10_valueNow_3 0 rfl rfl)
theorem dX10_valueNow_73 : decode cX10_valueNow 73 = .ok (.iload_n 3, 1) := dk_29 (dk_at dksX10_valueNow_3 3 rfl rfl)
theorem dX10_valueNow_74 : decode cX10_valueNow 74 = .ok (.iconst 1, 1) := dk_4 (dk_at dksX10_valueNow_3 4 rfl rfl)
theorem dX10_valueNow_75 : decode cX10_valueNow 75 = .ok (.isub, 1) := dk_100 (dk_at dksX10_valueNow_3 5 rfl rfl)
theorem dX10_valueNow_76 : decode cX10_valueNow 76 = .ok (.iaload, 1) := dk_46 (dk_at dksX10_valueNow_3 6 rfl rfl)
theorem dX10_valueNow_77 : decode cX10_valueNow 77 = .ok (.ifCond .eq 7, 3) := dk_153 0 7 (dk_at dksX10_valueNow_3 7 rfl rfl)
theorem dX10_valueNow_80 : decode cX10_valueNow 80 = .ok (.iconst 0, 1) := dk_3 (dk_at dksX10_valueNow_3 10 rfl rfl)
theorem dX10_valueNow_81 : decode cX10_valueNow 81 = .ok (.goto 4, 3) := dk_167 0 4 (dk_at dksX10_valueNow_3 11 rfl rfl)
theorem dX10_valueNow_84 : decode cX10_valueNow 84 = .ok (.iconst 1, 1) := dk_4 (dk_at dksX10_valueNow_3 14 rfl rfl)
theorem dX10_valueNow_85 : decode cX10_valueNow 85 = .ok (.iastore, 1) := dk_79 (dk_at dksX10_valueNow_3 15 rfl rfl)
theorem dX10_valueNow_86 : decode cX10_valueNow 86 = .ok (.goto 33, 3) := dk_167 0 33 (dk_at dksX10_valueNow_3 16 rfl rfl)
theorem dX10_valueNow_89 : decode cX10_valueNow 89 = .ok (.iinc 3 (-1), 3) := dk_132 3 255 (dk_at dksX10_valueNow_3 19 rfl rfl)
theorem dX10_valueNow_92 : decode cX10_valueNow 92 = .ok (.aload_n 0, 1) := dk_42 (dk_at dksX10_valueNow_3 22 rfl rfl)
theorem dX10_valueNow_93 : decode cX10_valueNow 93 = .ok (.getfield 72, 3) := dk_180 0 72 (dk_at dksX10_valueNow_4 0 rfl rfl)
theorem dX10_valueNow_96 : decode cX10_valueNow 96 = .ok (.iload_n 3, 1) := dk_29 (dk_at dksX10_valueNow_4 3 rfl rfl)
theorem dX10_valueNow_97 : decode cX10_valueNow 97 = .ok (.iconst 1, 1) := dk_4 (dk_at dksX10_valueNow_4 4 rfl rfl)
theorem dX10_valueNow_98 : decode cX10_valueNow 98 = .ok (.isub, 1) := dk_100 (dk_at dksX10_valueNow_4 5 rfl rfl)
theorem dX10_valueNow_99 : decode cX10_valueNow 99 = .ok (.iload 5, 2) := dk_21 5 (dk_at dksX10_valueNow_4 6 rfl rfl)
theorem dX10_valueNow_101 : decode cX10_valueNow 101 = .ok (.aload_n 0, 1) := dk_42 (dk_at dksX10_valueNow_4 8 rfl rfl)
theorem dX10_valueNow_102 : decode cX10_valueNow 102 = .ok (.getfield 72, 3) := dk_180 0 72 (dk_at dksX10_valueNow_4 9 rfl rfl)
theorem dX10_valueNow_105 : decode cX10_valueNow 105 = .ok (.iload_n 3, 1) := dk_29 (dk_at dksX10_valueNow_4 12 rfl rfl)
theorem dX10_valueNow_106 : decode cX10_valueNow 106 = .ok (.iconst 1, 1) := dk_4 (dk_at dksX10_valueNow_4 13 rfl rfl)
theorem dX10_valueNow_107 : decode cX10_valueNow 107 = .ok (.isub, 1) := dk_100 (dk_at dksX10_valueNow_4 14 rfl rfl)
theorem dX10_valueNow_108 : decode cX10_valueNow 108 = .ok (.iaload, 1) := dk_46 (dk_at dksX10_valueNow_4 15 rfl rfl)
theorem dX10_valueNow_109 : decode cX10_valueNow 109 = .ok (.aload_n 0, 1) := dk_42 (dk_at dksX10_valueNow_4 16 rfl rfl)
theorem dX10_valueNow_110 : decode cX10_valueNow 110 = .ok (.getfield 72, 3) := dk_180 0 72 (dk_at dksX10_valueNow_4 17 rfl rfl)
theorem dX10_valueNow_113 : decode cX10_valueNow 113 = .ok (.iload_n 3, 1) := dk_29 (dk_at dksX10_valueNow_4 20 rfl rfl)
theorem dX10_valueNow_114 : decode cX10_valueNow 114 = .ok (.iaload, 1) := dk_46 (dk_at dksX10_valueNow_4 21 rfl rfl)
theorem dX10_valueNow_115 : decode cX10_valueNow 115 = .ok (.invokestatic 294, 3) := dk_184 1 38 (dk_at dksX10_valueNow_5 0 rfl rfl)
theorem dX10_valueNow_118 : decode cX10_valueNow 118 = .ok (.iastore, 1) := dk_79 (dk_at dksX10_valueNow_5 3 rfl rfl)
theorem dX10_valueNow_119 : decode cX10_valueNow 119 = .ok (.iinc 4 1, 3) := dk_132 4 1 (dk_at dksX10_valueNow_5 4 rfl rfl)
theorem dX10_valueNow_122 : decode cX10_valueNow 122 = .ok (.goto (-117), 3) := dk_167 255 139 (dk_at dksX10_valueNow_5 7 rfl rfl)
theorem dX10_valueNow_125 : decode cX10_valueNow 125 = .ok (.aload_n 0, 1) := dk_42 (dk_at dksX10_valueNow_5 10 rfl rfl)
theorem dX10_valueNow_126 : decode cX10_valueNow 126 = .ok (.getfield 72, 3) := dk_180 0 72 (dk_at dksX10_valueNow_5 11 rfl rfl)
theorem dX10_valueNow_129 : decode cX10_valueNow 129 = .ok (.iconst 0, 1) := dk_3 (dk_at dksX10_valueNow_5 14 rfl rfl)
theorem dX10_valueNow_130 : decode cX10_valueNow 130 = .ok (.iaload, 1) := dk_46 (dk_at dksX10_valueNow_5 15 rfl rfl)
theorem dX10_valueNow_131 : decode cX10_valueNow 131 = .ok (.ireturn, 1) := dk_172 (dk_at dksX10_valueNow_5 16 rfl rfl)
abbrev cX10_reckon : ByteArray := prog_22_method_35_code
def yX10_reckon : MethodName := ⟨RX10, "reckon", "(III)I"⟩
def dkwX10_reckon_5 : List UInt8 := [167, 0, 4, 3, 172]
abbrev dktX10_reckon_5 : List UInt8 := dkwX10_reckon_5 ++ []
def dkwX10_reckon_4 : List UInt8 := [153, 0, 11, 28, 153, 0, 7, 4, 167, 0, 4, 3, 172, 27, 154, 0, 7, 28, 153, 0, 7, 4]
abbrev dktX10_reckon_4 : List UInt8 := dkwX10_reckon_4 ++ dktX10_reckon_5
def dkwX10_reckon_3 : List UInt8 := [27, 28, 162, 0, 7, 4, 167, 0, 4, 3, 172, 27, 28, 160, 0, 7, 4, 167, 0, 4, 3, 172, 27]
abbrev dktX10_reckon_3 : List UInt8 := dkwX10_reckon_3 ++ dktX10_reckon_4
def dkwX10_reckon_2 : List UInt8 := [27, 28, 96, 172, 27, 28, 100, 172, 27, 28, 104, 172, 28, 154, 0, 7, 3, 167, 0, 6, 27, 28, 108, 172]
abbrev dktX10_reckon_2 : List UInt8 := dkwX10_reckon_2 ++ dktX10_reckon_3
def dkwX10_reckon_1 : List UInt8 := [170, 0, 0, 0, 0, 0, 103, 255, 255, 255, 230, 255, 255, 255, 236, 0, 0, 0, 89, 0, 0, 0, 78, 0, 0, 0, 67, 0, 0, 0, 55, 0, 0, 0, 51, 0, 0, 0, 47, 0, 0, 0, 43]
abbrev dktX10_reckon_1 : List UInt8 := dkwX10_reckon_1 ++ dktX10_reckon_2
def dkwX10_reckon_0 : List UInt8 := [26]
abbrev dktX10_reckon_0 : List UInt8 := dkwX10_reckon_0 ++ dktX10_reckon_1
theorem dksX10_reckon_0 : cX10_reckon.data.toList.drop 0 = dktX10_reckon_0 := by decide +kernel
theorem dksX10_reckon_1 : cX10_reckon.data.toList.drop 1 = dktX10_reckon_1 := dk_seg dksX10_reckon_0 1 rfl rfl
theorem dksX10_reckon_2 : cX10_reckon.data.toList.drop 44 = dktX10_reckon_2 := dk_seg dksX10_reckon_1 43 rfl rfl
theorem dksX10_reckon_3 : cX10_reckon.data.toList.drop 68 = dktX10_reckon_3 := dk_seg dksX10_reckon_2 24 rfl rfl
theorem dksX10_reckon_4 : cX10_reckon.data.toList.drop 91 = dktX10_reckon_4 := dk_seg dksX10_reckon_3 23 rfl rfl
theorem dksX10_reckon_5 : cX10_reckon.data.toList.drop 113 = dktX10_reckon_5 := dk_seg dksX10_reckon_4 22 rfl rfl
theorem dX10_reckon_0 : decode cX10_reckon 0 = .ok (.iload_n 0, 1) := dk_26 (dk_at dksX10_reckon_0 0 rfl rfl)
theorem dX10_reckon_1 : decode cX10_reckon 1 = .ok (.tableswitch 103 (-26) (-20) #[89, 78, 67, 55, 51, 47, 43], 43) := by decide +kernel
theorem dX10_reckon_44 : decode cX10_reckon 44 = .ok (.iload_n 1, 1) := dk_27 (dk_at dksX10_reckon_2 0 rfl rfl)
theorem dX10_reckon_45 : decode cX10_reckon 45 = .ok (.iload_n 2, 1) := dk_28 (dk_at dksX10_reckon_2 1 rfl rfl)
theorem dX10_reckon_46 : decode cX10_reckon 46 = .ok (.iadd, 1) := dk_96 (dk_at dksX10_reckon_2 2 rfl rfl)
theorem dX10_reckon_47 : decode cX10_reckon 47 = .ok (.ireturn, 1) := dk_172 (dk_at dksX10_reckon_2 3 rfl rfl)
theorem dX10_reckon_48 : decode cX10_reckon 48 = .ok (.iload_n 1, 1) := dk_27 (dk_at dksX10_reckon_2 4 rfl rfl)
theorem dX10_reckon_49 : decode cX10_reckon 49 = .ok (.iload_n 2, 1) := dk_28 (dk_at dksX10_reckon_2 5 rfl rfl)
theorem dX10_reckon_50 : decode cX10_reckon 50 = .ok (.isub, 1) := dk_100 (dk_at dksX10_reckon_2 6 rfl rfl)
theorem dX10_reckon_51 : decode cX10_reckon 51 = .ok (.ireturn, 1) := dk_172 (dk_at dksX10_reckon_2 7 rfl rfl)
theorem dX10_reckon_52 : decode cX10_reckon 52 = .ok (.iload_n 1, 1) := dk_27 (dk_at dksX10_reckon_2 8 rfl rfl)
theorem dX10_reckon_53 : decode cX10_reckon 53 = .ok (.iload_n 2, 1) := dk_28 (dk_at dksX10_reckon_2 9 rfl rfl)
theorem dX10_reckon_54 : decode cX10_reckon 54 = .ok (.imul, 1) := dk_104 (dk_at dksX10_reckon_2 10 rfl rfl)
theorem dX10_reckon_55 : decode cX10_reckon 55 = .ok (.ireturn, 1) := dk_172 (dk_at dksX10_reckon_2 11 rfl rfl)
theorem dX10_reckon_56 : decode cX10_reckon 56 = .ok (.iload_n 2, 1) := dk_28 (dk_at dksX10_reckon_2 12 rfl rfl)
theorem dX10_reckon_57 : decode cX10_reckon 57 = .ok (.ifCond .ne 7, 3) := dk_154 0 7 (dk_at dksX10_reckon_2 13 rfl rfl)
theorem dX10_reckon_60 : decode cX10_reckon 60 = .ok (.iconst 0, 1) := dk_3 (dk_at dksX10_reckon_2 16 rfl rfl)
theorem dX10_reckon_61 : decode cX10_reckon 61 = .ok (.goto 6, 3) := dk_167 0 6 (dk_at dksX10_reckon_2 17 rfl rfl)
theorem dX10_reckon_64 : decode cX10_reckon 64 = .ok (.iload_n 1, 1) := dk_27 (dk_at dksX10_reckon_2 20 rfl rfl)
theorem dX10_reckon_65 : decode cX10_reckon 65 = .ok (.iload_n 2, 1) := dk_28 (dk_at dksX10_reckon_2 21 rfl rfl)
theorem dX10_reckon_66 : decode cX10_reckon 66 = .ok (.idiv, 1) := dk_108 (dk_at dksX10_reckon_2 22 rfl rfl)
theorem dX10_reckon_67 : decode cX10_reckon 67 = .ok (.ireturn, 1) := dk_172 (dk_at dksX10_reckon_2 23 rfl rfl)
theorem dX10_reckon_68 : decode cX10_reckon 68 = .ok (.iload_n 1, 1) := dk_27 (dk_at dksX10_reckon_3 0 rfl rfl)
theorem dX10_reckon_69 : decode cX10_reckon 69 = .ok (.iload_n 2, 1) := dk_28 (dk_at dksX10_reckon_3 1 rfl rfl)
theorem dX10_reckon_70 : decode cX10_reckon 70 = .ok (.if_icmp .ge 7, 3) := dk_162 0 7 (dk_at dksX10_reckon_3 2 rfl rfl)
theorem dX10_reckon_73 : decode cX10_reckon 73 = .ok (.iconst 1, 1) := dk_4 (dk_at dksX10_reckon_3 5 rfl rfl)
theorem dX10_reckon_74 : decode cX10_reckon 74 = .ok (.goto 4, 3) := dk_167 0 4 (dk_at dksX10_reckon_3 6 rfl rfl)
theorem dX10_reckon_77 : decode cX10_reckon 77 = .ok (.iconst 0, 1) := dk_3 (dk_at dksX10_reckon_3 9 rfl rfl)
theorem dX10_reckon_78 : decode cX10_reckon 78 = .ok (.ireturn, 1) := dk_172 (dk_at dksX10_reckon_3 10 rfl rfl)
theorem dX10_reckon_79 : decode cX10_reckon 79 = .ok (.iload_n 1, 1) := dk_27 (dk_at dksX10_reckon_3 11 rfl rfl)
theorem dX10_reckon_80 : decode cX10_reckon 80 = .ok (.iload_n 2, 1) := dk_28 (dk_at dksX10_reckon_3 12 rfl rfl)
theorem dX10_reckon_81 : decode cX10_reckon 81 = .ok (.if_icmp .ne 7, 3) := dk_160 0 7 (dk_at dksX10_reckon_3 13 rfl rfl)
theorem dX10_reckon_84 : decode cX10_reckon 84 = .ok (.iconst 1, 1) := dk_4 (dk_at dksX10_reckon_3 16 rfl rfl)
theorem dX10_reckon_85 : decode cX10_reckon 85 = .ok (.goto 4, 3) := dk_167 0 4 (dk_at dksX10_reckon_3 17 rfl rfl)
theorem dX10_reckon_88 : decode cX10_reckon 88 = .ok (.iconst 0, 1) := dk_3 (dk_at dksX10_reckon_3 20 rfl rfl)
theorem dX10_reckon_89 : decode cX10_reckon 89 = .ok (.ireturn, 1) := dk_172 (dk_at dksX10_reckon_3 21 rfl rfl)
theorem dX10_reckon_90 : decode cX10_reckon 90 = .ok (.iload_n 1, 1) := dk_27 (dk_at dksX10_reckon_3 22 rfl rfl)
theorem dX10_reckon_91 : decode cX10_reckon 91 = .ok (.ifCond .eq 11, 3) := dk_153 0 11 (dk_at dksX10_reckon_4 0 rfl rfl)
theorem dX10_reckon_94 : decode cX10_reckon 94 = .ok (.iload_n 2, 1) := dk_28 (dk_at dksX10_reckon_4 3 rfl rfl)
theorem dX10_reckon_95 : decode cX10_reckon 95 = .ok (.ifCond .eq 7, 3) := dk_153 0 7 (dk_at dksX10_reckon_4 4 rfl rfl)
theorem dX10_reckon_98 : decode cX10_reckon 98 = .ok (.iconst 1, 1) := dk_4 (dk_at dksX10_reckon_4 7 rfl rfl)
theorem dX10_reckon_99 : decode cX10_reckon 99 = .ok (.goto 4, 3) := dk_167 0 4 (dk_at dksX10_reckon_4 8 rfl rfl)
theorem dX10_reckon_102 : decode cX10_reckon 102 = .ok (.iconst 0, 1) := dk_3 (dk_at dksX10_reckon_4 11 rfl rfl)
theorem dX10_reckon_103 : decode cX10_reckon 103 = .ok (.ireturn, 1) := dk_172 (dk_at dksX10_reckon_4 12 rfl rfl)
theorem dX10_reckon_104 : decode cX10_reckon 104 = .ok (.iload_n 1, 1) := dk_27 (dk_at dksX10_reckon_4 13 rfl rfl)
theorem dX10_reckon_105 : decode cX10_reckon 105 = .ok (.ifCond .ne 7, 3) := dk_154 0 7 (dk_at dksX10_reckon_4 14 rfl rfl)
theorem dX10_reckon_108 : decode cX10_reckon 108 = .ok (.iload_n 2, 1) := dk_28 (dk_at dksX10_reckon_4 17 rfl rfl)
theorem dX10_reckon_109 : decode cX10_reckon 109 = .ok (.ifCond .eq 7, 3) := dk_153 0 7 (dk_at dksX10_reckon_4 18 rfl rfl)
theorem dX10_reckon_112 : decode cX10_reckon 112 = .ok (.iconst 1, 1) := dk_4 (dk_at dksX10_reckon_4 21 rfl rfl)
theorem dX10_reckon_113 : decode cX10_reckon 113 = .ok (.goto 4, 3) := dk_167 0 4 (dk_at dksX10_reckon_5 0 rfl rfl)
theorem dX10_reckon_116 : decode cX10_reckon 116 = .ok (.iconst 0, 1) := dk_3 (dk_at dksX10_reckon_5 3 rfl rfl)
theorem dX10_reckon_117 : decode cX10_reckon 117 = .ok (.ireturn, 1) := dk_172 (dk_at dksX10_reckon_5 4 rfl rfl)
abbrev cX10_within : ByteArray := prog_22_method_6_code
def yX10_within : MethodName := ⟨RX10, "within", "(III)I"⟩
def dkwX10_within_0 : List UInt8 := [27, 28, 26, 184, 0, 124, 184, 0, 130, 172]
abbrev dktX10_within_0 : List UInt8 := dkwX10_within_0 ++ []
theorem dksX10_within_0 : cX10_within.data.toList.drop 0 = dktX10_within_0 := by decide +kernel
theorem dX10_within_0 : decode cX10_within 0 = .ok (.iload_n 1, 1) := dk_27 (dk_at dksX10_within_0 0 rfl rfl)
theorem dX10_within_1 : decode cX10_within 1 = .ok (.iload_n 2, 1) := dk_28 (dk_at dksX10_within_0 1 rfl rfl)
theorem dX10_within_2 : decode cX10_within 2 = .ok (.iload_n 0, 1) := dk_26 (dk_at dksX10_within_0 2 rfl rfl)
theorem dX10_within_3 : decode cX10_within 3 = .ok (.invokestatic 124, 3) := dk_184 0 124 (dk_at dksX10_within_0 3 rfl rfl)
theorem dX10_within_6 : decode cX10_within 6 = .ok (.invokestatic 130, 3) := dk_184 0 130 (dk_at dksX10_within_0 6 rfl rfl)
theorem dX10_within_9 : decode cX10_within 9 = .ok (.ireturn, 1) := dk_172 (dk_at dksX10_within_0 9 rfl rfl)
abbrev cX10_isLost : ByteArray := prog_22_method_39_code
def yX10_isLost : MethodName := ⟨RX10, "isLost", "()Z"⟩
def dkwX10_isLost_3 : List UInt8 := [182, 1, 48, 157, 0, 15, 42, 180, 0, 59, 16, 31, 46, 16, 40, 160, 0, 7, 4, 167, 0, 4, 3, 172]
abbrev dktX10_isLost_3 : List UInt8 := dkwX10_isLost_3 ++ []
def dkwX10_isLost_2 : List UInt8 := [180, 0, 59, 16, 25, 92, 46, 4, 100, 79, 4, 172, 42, 180, 0, 44, 16, 9, 46, 158, 0, 11, 42, 4]
abbrev dktX10_isLost_2 : List UInt8 := dkwX10_isLost_2 ++ dktX10_isLost_3
def dkwX10_isLost_1 : List UInt8 := [180, 1, 42, 184, 0, 240, 153, 0, 28, 4, 172, 42, 180, 0, 59, 16, 25, 46, 158, 0, 16, 42]
abbrev dktX10_isLost_1 : List UInt8 := dkwX10_isLost_1 ++ dktX10_isLost_2
def dkwX10_isLost_0 : List UInt8 := [42, 180, 1, 42, 158, 0, 29, 42, 89, 180, 1, 42, 4, 100, 181, 1, 42, 42, 180, 1, 45, 42]
abbrev dktX10_isLost_0 : List UInt8 := dkwX10_isLost_0 ++ dktX10_isLost_1
theorem dksX10_isLost_0 : cX10_isLost.data.toList.drop 0 = dktX10_isLost_0 := by decide +kernel
theorem dksX10_isLost_1 : cX10_isLost.data.toList.drop 22 = dktX10_isLost_1 := dk_seg dksX10_isLost_0 22 rfl rfl
theorem dksX10_isLost_2 : cX10_isLost.data.toList.drop 44 = dktX10_isLost_2 := dk_seg dksX10_isLost_1 22 rfl rfl
theorem dksX10_isLost_3 : cX10_isLost.data.toList.drop 68 = dktX10_isLost_3 := dk_seg dksX10_isLost_2 24 rfl rfl
theorem dX10_isLost_0 : decode cX10_isLost 0 = .ok (.aload_n 0, 1) := dk_42 (dk_at dksX10_isLost_0 0 rfl rfl)
theorem dX10_isLost_1 : decode cX10_isLost 1 = .ok (.getfield 298, 3) := dk_180 1 42 (dk_at dksX10_isLost_0 1 rfl rfl)
theorem dX10_isLost_4 : decode cX10_isLost 4 = .ok (.ifCond .le 29, 3) := dk_158 0 29 (dk_at dksX10_isLost_0 4 rfl rfl)
theorem dX10_isLost_7 : decode cX10_isLost 7 = .ok (.aload_n 0, 1) := dk_42 (dk_at dksX10_isLost_0 7 rfl rfl)
theorem dX10_isLost_8 : decode cX10_isLost 8 = .ok (.dup, 1) := dk_89 (dk_at dksX10_isLost_0 8 rfl rfl)
theorem dX10_isLost_9 : decode cX10_isLost 9 = .ok (.getfield 298, 3) := dk_180 1 42 (dk_at dksX10_isLost_0 9 rfl rfl)
theorem dX10_isLost_12 : decode cX10_isLost 12 = .ok (.iconst 1, 1) := dk_4 (dk_at dksX10_isLost_0 12 rfl rfl)
theorem dX10_isLost_13 : decode cX10_isLost 13 = .ok (.isub, 1) := dk_100 (dk_at dksX10_isLost_0 13 rfl rfl)
theorem dX10_isLost_14 : decode cX10_isLost 14 = .ok (.putfield 298, 3) := dk_181 1 42 (dk_at dksX10_isLost_0 14 rfl rfl)
theorem dX10_isLost_17 : decode cX10_isLost 17 = .ok (.aload_n 0, 1) := dk_42 (dk_at dksX10_isLost_0 17 rfl rfl)
theorem dX10_isLost_18 : decode cX10_isLost 18 = .ok (.getfield 301, 3) := dk_180 1 45 (dk_at dksX10_isLost_0 18 rfl rfl)
theorem dX10_isLost_21 : decode cX10_isLost 21 = .ok (.aload_n 0, 1) := dk_42 (dk_at dksX10_isLost_0 21 rfl rfl)
theorem dX10_isLost_22 : decode cX10_isLost 22 = .ok (.getfield 298, 3) := dk_180 1 42 (dk_at dksX10_isLost_1 0 rfl rfl)
theorem dX10_isLost_25 : decode cX10_isLost 25 = .ok (.invokestatic 240, 3) := dk_184 0 240 (dk_at dksX10_isLost_1 3 rfl rfl)
theorem dX10_isLost_28 : decode cX10_isLost 28 = .ok (.ifCond .eq 28, 3) := dk_153 0 28 (dk_at dksX10_isLost_1 6 rfl rfl)
theorem dX10_isLost_31 : decode cX10_isLost 31 = .ok (.iconst 1, 1) := dk_4 (dk_at dksX10_isLost_1 9 rfl rfl)
theorem dX10_isLost_32 : decode cX10_isLost 32 = .ok (.ireturn, 1) := dk_172 (dk_at dksX10_isLost_1 10 rfl rfl)
theorem dX10_isLost_33 : decode cX10_isLost 33 = .ok (.aload_n 0, 1) := dk_42 (dk_at dksX10_isLost_1 11 rfl rfl)
theorem dX10_isLost_34 : decode cX10_isLost 34 = .ok (.getfield 59, 3) := dk_180 0 59 (dk_at dksX10_isLost_1 12 rfl rfl)
theorem dX10_isLost_37 : decode cX10_isLost 37 = .ok (.bipush 25, 2) := dk_16 25 (dk_at dksX10_isLost_1 15 rfl rfl)
theorem dX10_isLost_39 : decode cX10_isLost 39 = .ok (.iaload, 1) := dk_46 (dk_at dksX10_isLost_1 17 rfl rfl)
theorem dX10_isLost_40 : decode cX10_isLost 40 = .ok (.ifCond .le 16, 3) := dk_158 0 16 (dk_at dksX10_isLost_1 18 rfl rfl)
theorem dX10_isLost_43 : decode cX10_isLost 43 = .ok (.aload_n 0, 1) := dk_42 (dk_at dksX10_isLost_1 21 rfl rfl)
theorem dX10_isLost_44 : decode cX10_isLost 44 = .ok (.getfield 59, 3) := dk_180 0 59 (dk_at dksX10_isLost_2 0 rfl rfl)
theorem dX10_isLost_47 : decode cX10_isLost 47 = .ok (.bipush 25, 2) := dk_16 25 (dk_at dksX10_isLost_2 3 rfl rfl)
theorem dX10_isLost_49 : decode cX10_isLost 49 = .ok (.dup2, 1) := dk_92 (dk_at dksX10_isLost_2 5 rfl rfl)
theorem dX10_isLost_50 : decode cX10_isLost 50 = .ok (.iaload, 1) := dk_46 (dk_at dksX10_isLost_2 6 rfl rfl)
theorem dX10_isLost_51 : decode cX10_isLost 51 = .ok (.iconst 1, 1) := dk_4 (dk_at dksX10_isLost_2 7 rfl rfl)
theorem dX10_isLost_52 : decode cX10_isLost 52 = .ok (.isub, 1) := dk_100 (dk_at dksX10_isLost_2 8 rfl rfl)
theorem dX10_isLost_53 : decode cX10_isLost 53 = .ok (.iastore, 1) := dk_79 (dk_at dksX10_isLost_2 9 rfl rfl)
theorem dX10_isLost_54 : decode cX10_isLost 54 = .ok (.iconst 1, 1) := dk_4 (dk_at dksX10_isLost_2 10 rfl rfl)
theorem dX10_isLost_55 : decode cX10_isLost 55 = .ok (.ireturn, 1) := dk_172 (dk_at dksX10_isLost_2 11 rfl rfl)
theorem dX10_isLost_56 : decode cX10_isLost 56 = .ok (.aload_n 0, 1) := dk_42 (dk_at dksX10_isLost_2 12 rfl rfl)
theorem dX10_isLost_57 : decode cX10_isLost 57 = .ok (.getfield 44, 3) := dk_180 0 44 (dk_at dksX10_isLost_2 13 rfl rfl)
theorem dX10_isLost_60 : decode cX10_isLost 60 = .ok (.bipush 9, 2) := dk_16 9 (dk_at dksX10_isLost_2 16 rfl rfl)
theorem dX10_isLost_62 : decode cX10_isLost 62 = .ok (.iaload, 1) := dk_46 (dk_at dksX10_isLost_2 18 rfl rfl)
theorem dX10_isLost_63 : decode cX10_isLost 63 = .ok (.ifCond .le 11, 3) := dk_158 0 11 (dk_at dksX10_isLost_2 19 rfl rfl)
theorem dX10_isLost_66 : decode cX10_isLost 66 = .ok (.aload_n 0, 1) := dk_42 (dk_at dksX10_isLost_2 22 rfl rfl)
theorem dX10_isLost_67 : decode cX10_isLost 67 = .ok (.iconst 1, 1) := dk_4 (dk_at dksX10_isLost_2 23 rfl rfl)
theorem dX10_isLost_68 : decode cX10_isLost 68 = .ok (.invokevirtual 304, 3) := dk_182 1 48 (dk_at dksX10_isLost_3 0 rfl rfl)
theorem dX10_isLost_71 : decode cX10_isLost 71 = .ok (.ifCond .gt 15, 3) := dk_157 0 15 (dk_at dksX10_isLost_3 3 rfl rfl)
theorem dX10_isLost_74 : decode cX10_isLost 74 = .ok (.aload_n 0, 1) := dk_42 (dk_at dksX10_isLost_3 6 rfl rfl)
theorem dX10_isLost_75 : decode cX10_isLost 75 = .ok (.getfield 59, 3) := dk_180 0 59 (dk_at dksX10_isLost_3 7 rfl rfl)
theorem dX10_isLost_78 : decode cX10_isLost 78 = .ok (.bipush 31, 2) := dk_16 31 (dk_at dksX10_isLost_3 10 rfl rfl)
theorem dX10_isLost_80 : decode cX10_isLost 80 = .ok (.iaload, 1) := dk_46 (dk_at dksX10_isLost_3 12 rfl rfl)
theorem dX10_isLost_81 : decode cX10_isLost 81 = .ok (.bipush 40, 2) := dk_16 40 (dk_at dksX10_isLost_3 13 rfl rfl)
theorem dX10_isLost_83 : decode cX10_isLost 83 = .ok (.if_icmp .ne 7, 3) := dk_160 0 7 (dk_at dksX10_isLost_3 15 rfl rfl)
theorem dX10_isLost_86 : decode cX10_isLost 86 = .ok (.iconst 1, 1) := dk_4 (dk_at dksX10_isLost_3 18 rfl rfl)
theorem dX10_isLost_87 : decode cX10_isLost 87 = .ok (.goto 4, 3) := dk_167 0 4 (dk_at dksX10_isLost_3 19 rfl rfl)
theorem dX10_isLost_90 : decode cX10_isLost 90 = .ok (.iconst 0, 1) := dk_3 (dk_at dksX10_isLost_3 22 rfl rfl)
theorem dX10_isLost_91 : decode cX10_isLost 91 = .ok (.ireturn, 1) := dk_172 (dk_at dksX10_isLost_3 23 rfl rfl)
abbrev cX10_receive : ByteArray := prog_22_method_45_code
def yX10_receive : MethodName := ⟨RX10, "receive", "()V"⟩
def dkwX10_receive_7 : List UInt8 := [16, 31, 28, 79, 177]
abbrev dktX10_receive_7 : List UInt8 := dkwX10_receive_7 ++ []
def dkwX10_receive_6 : List UInt8 := [6, 27, 104, 96, 162, 0, 16, 42, 180, 0, 59, 29, 3, 79, 132, 3, 1, 167, 255, 236, 42, 180, 0, 59]
abbrev dktX10_receive_6 : List UInt8 := dkwX10_receive_6 ++ dktX10_receive_7
def dkwX10_receive_5 : List UInt8 := [5, 96, 21, 7, 79, 132, 2, 1, 132, 3, 1, 167, 255, 141, 16, 33, 6, 28, 104, 96, 62, 29, 16, 33]
abbrev dktX10_receive_5 : List UInt8 := dkwX10_receive_5 ++ dktX10_receive_6
def dkwX10_receive_4 : List UInt8 := [180, 0, 59, 16, 33, 6, 28, 104, 96, 4, 96, 21, 6, 79, 42, 180, 0, 59, 16, 33, 6, 28, 104, 96]
abbrev dktX10_receive_4 : List UInt8 := dkwX10_receive_4 ++ dktX10_receive_5
def dkwX10_receive_3 : List UInt8 := [21, 7, 182, 1, 65, 167, 0, 49, 42, 180, 0, 59, 16, 33, 6, 28, 104, 96, 21, 5, 79, 42]
abbrev dktX10_receive_3 : List UInt8 := dkwX10_receive_3 ++ dktX10_receive_4
def dkwX10_receive_2 : List UInt8 := [180, 0, 59, 21, 4, 5, 96, 46, 54, 7, 21, 6, 42, 180, 0, 59, 3, 46, 163, 0, 14, 42, 21, 5]
abbrev dktX10_receive_2 : List UInt8 := dkwX10_receive_2 ++ dktX10_receive_3
def dkwX10_receive_1 : List UInt8 := [54, 4, 42, 180, 0, 59, 21, 4, 46, 54, 5, 42, 180, 0, 59, 21, 4, 4, 96, 46, 54, 6, 42]
abbrev dktX10_receive_1 : List UInt8 := dkwX10_receive_1 ++ dktX10_receive_2
def dkwX10_receive_0 : List UInt8 := [42, 180, 0, 59, 16, 31, 46, 60, 3, 61, 3, 62, 29, 27, 162, 0, 116, 16, 33, 6, 29, 104, 96]
abbrev dktX10_receive_0 : List UInt8 := dkwX10_receive_0 ++ dktX10_receive_1
theorem dksX10_receive_0 : cX10_receive.data.toList.drop 0 = dktX10_receive_0 := by decide +kernel
theorem dksX10_receive_1 : cX10_receive.data.toList.drop 23 = dktX10_receive_1 := dk_seg dksX10_receive_0 23 rfl rfl
theorem dksX10_receive_2 : cX10_receive.data.toList.drop 46 = dktX10_receive_2 := dk_seg dksX10_receive_1 23 rfl rfl
theorem dksX10_receive_3 : cX10_receive.data.toList.drop 70 = dktX10_receive_3 := dk_seg dksX10_receive_2 24 rfl rfl
theorem dksX10_receive_4 : cX10_receive.data.toList.drop 92 = dktX10_receive_4 := dk_seg dksX10_receive_3 22 rfl rfl
theorem dksX10_receive_5 : cX10_receive.data.toList.drop 116 = dktX10_receive_5 := dk_seg dksX10_receive_4 24 rfl rfl
theorem dksX10_receive_6 : cX10_receive.data.toList.drop 140 = dktX10_receive_6 := dk_seg dksX10_receive_5 24 rfl rfl
theorem dksX10_receive_7 : cX10_receive.data.toList.drop 164 = dktX10_receive_7 := dk_seg dksX10_receive_6 24 rfl rfl
theorem dX10_receive_0 : decode cX10_receive 0 = .ok (.aload_n 0, 1) := dk_42 (dk_at dksX10_receive_0 0 rfl rfl)
theorem dX10_receive_1 : decode cX10_receive 1 = .ok (.getfield 59, 3) := dk_180 0 59 (dk_at dksX10_receive_0 1 rfl rfl)
theorem dX10_receive_4 : decode cX10_receive 4 = .ok (.bipush 31, 2) := dk_16 31 (dk_at dksX10_receive_0 4 rfl rfl)
theorem dX10_receive_6 : decode cX10_receive 6 = .ok (.iaload, 1) := dk_46 (dk_at dksX10_receive_0 6 rfl rfl)
theorem dX10_receive_7 : decode cX10_receive 7 = .ok (.istore_n 1, 1) := dk_60 (dk_at dksX10_receive_0 7 rfl rfl)
theorem dX10_receive_8 : decode cX10_receive 8 = .ok (.iconst 0, 1) := dk_3 (dk_at dksX10_receive_0 8 rfl rfl)
theorem dX10_receive_9 : decode cX10_receive 9 = .ok (.istore_n 2, 1) := dk_61 (dk_at dksX10_receive_0 9 rfl rfl)
theorem dX10_receive_10 : decode cX10_receive 10 = .ok (.iconst 0, 1) := dk_3 (dk_at dksX10_receive_0 10 rfl rfl)
theorem dX10_receive_11 : decode cX10_receive 11 = .ok (.istore_n 3, 1) := dk_62 (dk_at dksX10_receive_0 11 rfl rfl)
theorem dX10_receive_12 : decode cX10_receive 12 = .ok (.iload_n 3, 1) := dk_29 (dk_at dksX10_receive_0 12 rfl rfl)
theorem dX10_receive_13 : decode cX10_receive 13 = .ok (.iload_n 1, 1) := dk_27 (dk_at dksX10_receive_0 13 rfl rfl)
theorem dX10_receive_14 : decode cX10_receive 14 = .ok (.if_icmp .ge 116, 3) := dk_162 0 116 (dk_at dksX10_receive_0 14 rfl rfl)
theorem dX10_receive_17 : decode cX10_receive 17 = .ok (.bipush 33, 2) := dk_16 33 (dk_at dksX10_receive_0 17 rfl rfl)
theorem dX10_receive_19 : decode cX10_receive 19 = .ok (.iconst 3, 1) := dk_6 (dk_at dksX10_receive_0 19 rfl rfl)
theorem dX10_receive_20 : decode cX10_receive 20 = .ok (.iload_n 3, 1) := dk_29 (dk_at dksX10_receive_0 20 rfl rfl)
theorem dX10_receive_21 : decode cX10_receive 21 = .ok (.imul, 1) := dk_104 (dk_at dksX10_receive_0 21 rfl rfl)
theorem dX10_receive_22 : decode cX10_receive 22 = .ok (.iadd, 1) := dk_96 (dk_at dksX10_receive_0 22 rfl rfl)
theorem dX10_receive_23 : decode cX10_receive 23 = .ok (.istore 4, 2) := dk_54 4 (dk_at dksX10_receive_1 0 rfl rfl)
theorem dX10_receive_25 : decode cX10_receive 25 = .ok (.aload_n 0, 1) := dk_42 (dk_at dksX10_receive_1 2 rfl rfl)
theorem dX10_receive_26 : decode cX10_receive 26 = .ok (.getfield 59, 3) := dk_180 0 59 (dk_at dksX10_receive_1 3 rfl rfl)
theorem dX10_receive_29 : decode cX10_receive 29 = .ok (.iload 4, 2) := dk_21 4 (dk_at dksX10_receive_1 6 rfl rfl)
theorem dX10_receive_31 : decode cX10_receive 31 = .ok (.iaload, 1) := dk_46 (dk_at dksX10_receive_1 8 rfl rfl)
theorem dX10_receive_32 : decode cX10_receive 32 = .ok (.istore 5, 2) := dk_54 5 (dk_at dksX10_receive_1 9 rfl rfl)
theorem dX10_receive_34 : decode cX10_receive 34 = .ok (.aload_n 0, 1) := dk_42 (dk_at dksX10_receive_1 11 rfl rfl)
theorem dX10_receive_35 : decode cX10_receive 35 = .ok (.getfield 59, 3) := dk_180 0 59 (dk_at dksX10_receive_1 12 rfl rfl)
theorem dX10_receive_38 : decode cX10_receive 38 = .ok (.iload 4, 2) := dk_21 4 (dk_at dksX10_receive_1 15 rfl rfl)
theorem dX10_receive_40 : decode cX10_receive 40 = .ok (.iconst 1, 1) := dk_4 (dk_at dksX10_receive_1 17 rfl rfl)
theorem dX10_receive_41 : decode cX10_receive 41 = .ok (.iadd, 1) := dk_96 (dk_at dksX10_receive_1 18 rfl rfl)
theorem dX10_receive_42 : decode cX10_receive 42 = .ok (.iaload, 1) := dk_46 (dk_at dksX10_receive_1 19 rfl rfl)
theorem dX10_receive_43 : decode cX10_receive 43 = .ok (.istore 6, 2) := dk_54 6 (dk_at dksX10_receive_1 20 rfl rfl)
theorem dX10_receive_45 : decode cX10_receive 45 = .ok (.aload_n 0, 1) := dk_42 (dk_at dksX10_receive_1 22 rfl rfl)
theorem dX10_receive_46 : decode cX10_receive 46 = .ok (.getfield 59, 3) := dk_180 0 59 (dk_at dksX10_receive_2 0 rfl rfl)
theorem dX10_receive_49 : decode cX10_receive 49 = .ok (.iload 4, 2) := dk_21 4 (dk_at dksX10_receive_2 3 rfl rfl)
theorem dX10_receive_51 : decode cX10_receive 51 = .ok (.iconst 2, 1) := dk_5 (dk_at dksX10_receive_2 5 rfl rfl)
theorem dX10_receive_52 : decode cX10_receive 52 = .ok (.iadd, 1) := dk_96 (dk_at dksX10_receive_2 6 rfl rfl)
theorem dX10_receive_53 : decode cX10_receive 53 = .ok (.iaload, 1) := dk_46 (dk_at dksX10_receive_2 7 rfl rfl)
theorem dX10_receive_54 : decode cX10_receive 54 = .ok (.istore 7, 2) := dk_54 7 (dk_at dksX10_receive_2 8 rfl rfl)
theorem dX10_receive_56 : decode cX10_receive 56 = .ok (.iload 6, 2) := dk_21 6 (dk_at dksX10_receive_2 10 rfl rfl)
theorem dX10_receive_58 : decode cX10_receive 58 = .ok (.aload_n 0, 1) := dk_42 (dk_at dksX10_receive_2 12 rfl rfl)
theorem dX10_receive_59 : decode cX10_receive 59 = .ok (.getfield 59, 3) := dk_180 0 59 (dk_at dksX10_receive_2 13 rfl rfl)
theorem dX10_receive_62 : decode cX10_receive 62 = .ok (.iconst 0, 1) := dk_3 (dk_at dksX10_receive_2 16 rfl rfl)
theorem dX10_receive_63 : decode cX10_receive 63 = .ok (.iaload, 1) := dk_46 (dk_at dksX10_receive_2 17 rfl rfl)
theorem dX10_receive_64 : decode cX10_receive 64 = .ok (.if_icmp .gt 14, 3) := dk_163 0 14 (dk_at dksX10_receive_2 18 rfl rfl)
theorem dX10_receive_67 : decode cX10_receive 67 = .ok (.aload_n 0, 1) := dk_42 (dk_at dksX10_receive_2 21 rfl rfl)
theorem dX10_receive_68 : decode cX10_receive 68 = .ok (.iload 5, 2) := dk_21 5 (dk_at dksX10_receive_2 22 rfl rfl)
theorem dX10_receive_70 : decode cX10_receive 70 = .ok (.iload 7, 2) := dk_21 7 (dk_at dksX10_receive_3 0 rfl rfl)
theorem dX10_receive_72 : decode cX10_receive 72 = .ok (.invokevirtual 321, 3) := dk_182 1 65 (dk_at dksX10_receive_3 2 rfl rfl)
theorem dX10_receive_75 : decode cX10_receive 75 = .ok (.goto 49, 3) := dk_167 0 49 (dk_at dksX10_receive_3 5 rfl rfl)
theorem dX10_receive_78 : decode cX10_receive 78 = .ok (.aload_n 0, 1) := dk_42 (dk_at dksX10_receive_3 8 rfl rfl)
theorem dX10_receive_79 : decode cX10_receive 79 = .ok (.getfield 59, 3) := dk_180 0 59 (dk_at dksX10_receive_3 9 rfl rfl)
theorem dX10_receive_82 : decode cX10_receive 82 = .ok (.bipush 33, 2) := dk_16 33 (dk_at dksX10_receive_3 12 rfl rfl)
theorem dX10_receive_84 : decode cX10_receive 84 = .ok (.iconst 3, 1) := dk_6 (dk_at dksX10_receive_3 14 rfl rfl)
theorem dX10_receive_85 : decode cX10_receive 85 = .ok (.iload_n 2, 1) := dk_28 (dk_at dksX10_receive_3 15 rfl rfl)
theorem dX10_receive_86 : decode cX10_receive 86 = .ok (.imul, 1) := dk_104 (dk_at dksX10_receive_3 16 rfl rfl)
theorem dX10_receive_87 : decode cX10_receive 87 = .ok (.iadd, 1) := dk_96 (dk_at dksX10_receive_3 17 rfl rfl)
theorem dX10_receive_88 : decode cX10_receive 88 = .ok (.iload 5, 2) := dk_21 5 (dk_at dksX10_receive_3 18 rfl rfl)
theorem dX10_receive_90 : decode cX10_receive 90 = .ok (.iastore, 1) := dk_79 (dk_at dksX10_receive_3 20 rfl rfl)
theorem dX10_receive_91 : decode cX10_receive 91 = .ok (.aload_n 0, 1) := dk_42 (dk_at dksX10_receive_3 21 rfl rfl)
theorem dX10_receive_92 : decode cX10_receive 92 = .ok (.getfield 59, 3) := dk_180 0 59 (dk_at dksX10_receive_4 0 rfl rfl)
theorem dX10_receive_95 : decode cX10_receive 95 = .ok (.bipush 33, 2) := dk_16 33 (dk_at dksX10_receive_4 3 rfl rfl)
theorem dX10_receive_97 : decode cX10_receive 97 = .ok (.iconst 3, 1) := dk_6 (dk_at dksX10_receive_4 5 rfl rfl)
theorem dX10_receive_98 : decode cX10_receive 98 = .ok (.iload_n 2, 1) := dk_28 (dk_at dksX10_receive_4 6 rfl rfl)
theorem dX10_receive_99 : decode cX10_receive 99 = .ok (.imul, 1) := dk_104 (dk_at dksX10_receive_4 7 rfl rfl)
theorem dX10_receive_100 : decode cX10_receive 100 = .ok (.iadd, 1) := dk_96 (dk_at dksX10_receive_4 8 rfl rfl)
theorem dX10_receive_101 : decode cX10_receive 101 = .ok (.iconst 1, 1) := dk_4 (dk_at dksX10_receive_4 9 rfl rfl)
theorem dX10_receive_102 : decode cX10_receive 102 = .ok (.iadd, 1) := dk_96 (dk_at dksX10_receive_4 10 rfl rfl)
theorem dX10_receive_103 : decode cX10_receive 103 = .ok (.iload 6, 2) := dk_21 6 (dk_at dksX10_receive_4 11 rfl rfl)
theorem dX10_receive_105 : decode cX10_receive 105 = .ok (.iastore, 1) := dk_79 (dk_at dksX10_receive_4 13 rfl rfl)
theorem dX10_receive_106 : decode cX10_receive 106 = .ok (.aload_n 0, 1) := dk_42 (dk_at dksX10_receive_4 14 rfl rfl)
theorem dX10_receive_107 : decode cX10_receive 107 = .ok (.getfield 59, 3) := dk_180 0 59 (dk_at dksX10_receive_4 15 rfl rfl)
theorem dX10_receive_110 : decode cX10_receive 110 = .ok (.bipush 33, 2) := dk_16 33 (dk_at dksX10_receive_4 18 rfl rfl)
theorem dX10_receive_112 : decode cX10_receive 112 = .ok (.iconst 3, 1) := dk_6 (dk_at dksX10_receive_4 20 rfl rfl)
theorem dX10_receive_113 : decode cX10_receive 113 = .ok (.iload_n 2, 1) := dk_28 (dk_at dksX10_receive_4 21 rfl rfl)
theorem dX10_receive_114 : decode cX10_receive 114 = .ok (.imul, 1) := dk_104 (dk_at dksX10_receive_4 22 rfl rfl)
theorem dX10_receive_115 : decode cX10_receive 115 = .ok (.iadd, 1) := dk_96 (dk_at dksX10_receive_4 23 rfl rfl)
theorem dX10_receive_116 : decode cX10_receive 116 = .ok (.iconst 2, 1) := dk_5 (dk_at dksX10_receive_5 0 rfl rfl)
theorem dX10_receive_117 : decode cX10_receive 117 = .ok (.iadd, 1) := dk_96 (dk_at dksX10_receive_5 1 rfl rfl)
theorem dX10_receive_118 : decode cX10_receive 118 = .ok (.iload 7, 2) := dk_21 7 (dk_at dksX10_receive_5 2 rfl rfl)
theorem dX10_receive_120 : decode cX10_receive 120 = .ok (.iastore, 1) := dk_79 (dk_at dksX10_receive_5 4 rfl rfl)
theorem dX10_receive_121 : decode cX10_receive 121 = .ok (.iinc 2 1, 3) := dk_132 2 1 (dk_at dksX10_receive_5 5 rfl rfl)
theorem dX10_receive_124 : decode cX10_receive 124 = .ok (.iinc 3 1, 3) := dk_132 3 1 (dk_at dksX10_receive_5 8 rfl rfl)
theorem dX10_receive_127 : decode cX10_receive 127 = .ok (.goto (-115), 3) := dk_167 255 141 (dk_at dksX10_receive_5 11 rfl rfl)
theorem dX10_receive_130 : decode cX10_receive 130 = .ok (.bipush 33, 2) := dk_16 33 (dk_at dksX10_receive_5 14 rfl rfl)
theorem dX10_receive_132 : decode cX10_receive 132 = .ok (.iconst 3, 1) := dk_6 (dk_at dksX10_receive_5 16 rfl rfl)
theorem dX10_receive_133 : decode cX10_receive 133 = .ok (.iload_n 2, 1) := dk_28 (dk_at dksX10_receive_5 17 rfl rfl)
theorem dX10_receive_134 : decode cX10_receive 134 = .ok (.imul, 1) := dk_104 (dk_at dksX10_receive_5 18 rfl rfl)
theorem dX10_receive_135 : decode cX10_receive 135 = .ok (.iadd, 1) := dk_96 (dk_at dksX10_receive_5 19 rfl rfl)
theorem dX10_receive_136 : decode cX10_receive 136 = .ok (.istore_n 3, 1) := dk_62 (dk_at dksX10_receive_5 20 rfl rfl)
theorem dX10_receive_137 : decode cX10_receive 137 = .ok (.iload_n 3, 1) := dk_29 (dk_at dksX10_receive_5 21 rfl rfl)
theorem dX10_receive_138 : decode cX10_receive 138 = .ok (.bipush 33, 2) := dk_16 33 (dk_at dksX10_receive_5 22 rfl rfl)
theorem dX10_receive_140 : decode cX10_receive 140 = .ok (.iconst 3, 1) := dk_6 (dk_at dksX10_receive_6 0 rfl rfl)
theorem dX10_receive_141 : decode cX10_receive 141 = .ok (.iload_n 1, 1) := dk_27 (dk_at dksX10_receive_6 1 rfl rfl)
theorem dX10_receive_142 : decode cX10_receive 142 = .ok (.imul, 1) := dk_104 (dk_at dksX10_receive_6 2 rfl rfl)
theorem dX10_receive_143 : decode cX10_receive 143 = .ok (.iadd, 1) := dk_96 (dk_at dksX10_receive_6 3 rfl rfl)
theorem dX10_receive_144 : decode cX10_receive 144 = .ok (.if_icmp .ge 16, 3) := dk_162 0 16 (dk_at dksX10_receive_6 4 rfl rfl)
theorem dX10_receive_147 : decode cX10_receive 147 = .ok (.aload_n 0, 1) := dk_42 (dk_at dksX10_receive_6 7 rfl rfl)
theorem dX10_receive_148 : decode cX10_receive 148 = .ok (.getfield 59, 3) := dk_180 0 59 (dk_at dksX10_receive_6 8 rfl rfl)
theorem dX10_receive_151 : decode cX10_receive 151 = .ok (.iload_n 3, 1) := dk_29 (dk_at dksX10_receive_6 11 rfl rfl)
theorem dX10_receive_152 : decode cX10_receive 152 = .ok (.iconst 0, 1) := dk_3 (dk_at dksX10_receive_6 12 rfl rfl)
theorem dX10_receive_153 : decode cX10_receive 153 = .ok (.iastore, 1) := dk_79 (dk_at dksX10_receive_6 13 rfl rfl)
theorem dX10_receive_154 : decode cX10_receive 154 = .ok (.iinc 3 1, 3) := dk_132 3 1 (dk_at dksX10_receive_6 14 rfl rfl)
theorem dX10_receive_157 : decode cX10_receive 157 = .ok (.goto (-20), 3) := dk_167 255 236 (dk_at dksX10_receive_6 17 rfl rfl)
theorem dX10_receive_160 : decode cX10_receive 160 = .ok (.aload_n 0, 1) := dk_42 (dk_at dksX10_receive_6 20 rfl rfl)
theorem dX10_receive_161 : decode cX10_receive 161 = .ok (.getfield 59, 3) := dk_180 0 59 (dk_at dksX10_receive_6 21 rfl rfl)
theorem dX10_receive_164 : decode cX10_receive 164 = .ok (.bipush 31, 2) := dk_16 31 (dk_at dksX10_receive_7 0 rfl rfl)
theorem dX10_receive_166 : decode cX10_receive 166 = .ok (.iload_n 2, 1) := dk_28 (dk_at dksX10_receive_7 2 rfl rfl)
theorem dX10_receive_167 : decode cX10_receive 167 = .ok (.iastore, 1) := dk_79 (dk_at dksX10_receive_7 3 rfl rfl)
theorem dX10_receive_168 : decode cX10_receive 168 = .ok (.return_, 1) := dk_177 (dk_at dksX10_receive_7 4 rfl rfl)
abbrev cX10_come : ByteArray := prog_22_method_44_code
def yX10_come : MethodName := ⟨RX10, "come", "(II)V"⟩
def dkwX10_come_10 : List UInt8 := [17, 0, 255, 126, 96, 79, 42, 180, 0, 59, 16, 18, 21, 5, 79, 42, 180, 0, 59, 16, 19, 28, 79, 177]
abbrev dktX10_come_10 : List UInt8 := dkwX10_come_10 ++ []
def dkwX10_come_9 : List UInt8 := [16, 17, 46, 100, 79, 42, 180, 0, 59, 16, 20, 92, 46, 28, 42, 180, 0, 59, 16, 19, 46, 100]
abbrev dktX10_come_9 : List UInt8 := dkwX10_come_9 ++ dktX10_come_10
def dkwX10_come_8 : List UInt8 := [42, 180, 0, 59, 16, 18, 46, 163, 0, 4, 177, 42, 180, 0, 59, 16, 21, 21, 5, 42, 180, 0, 59]
abbrev dktX10_come_8 : List UInt8 := dkwX10_come_8 ++ dktX10_come_9
def dkwX10_come_7 : List UInt8 := [180, 0, 59, 17, 0, 153, 29, 96, 27, 79, 42, 180, 0, 59, 17, 0, 217, 29, 96, 21, 5, 79, 21, 5]
abbrev dktX10_come_7 : List UInt8 := dkwX10_come_7 ++ dktX10_come_8
def dkwX10_come_6 : List UInt8 := [161, 0, 14, 42, 180, 0, 59, 8, 92, 46, 4, 96, 79, 177, 42, 182, 1, 62, 21, 4, 96, 54, 5, 42]
abbrev dktX10_come_6 : List UInt8 := dkwX10_come_6 ++ dktX10_come_7
def dkwX10_come_5 : List UInt8 := [21, 4, 16, 32, 161, 0, 14, 42, 180, 0, 59, 7, 92, 46, 4, 96, 79, 177, 21, 4, 16, 16]
abbrev dktX10_come_5 : List UInt8 := dkwX10_come_5 ++ dktX10_come_6
def dkwX10_come_4 : List UInt8 := [180, 0, 59, 16, 21, 3, 79, 29, 42, 182, 1, 62, 16, 64, 112, 100, 16, 64, 96, 16, 64, 112, 54, 4]
abbrev dktX10_come_4 : List UInt8 := dkwX10_come_4 ++ dktX10_come_5
def dkwX10_come_3 : List UInt8 := [180, 0, 59, 16, 18, 29, 79, 42, 180, 0, 59, 16, 19, 28, 79, 42, 180, 0, 59, 16, 20, 3, 79, 42]
abbrev dktX10_come_3 : List UInt8 := dkwX10_come_3 ++ dktX10_come_4
def dkwX10_come_2 : List UInt8 := [42, 180, 0, 59, 16, 15, 42, 180, 0, 59, 16, 14, 46, 79, 42, 180, 0, 59, 16, 17, 29, 79, 42]
abbrev dktX10_come_2 : List UInt8 := dkwX10_come_2 ++ dktX10_come_3
def dkwX10_come_1 : List UInt8 := [180, 0, 44, 3, 46, 29, 104, 79, 42, 180, 0, 59, 16, 8, 4, 79, 42, 180, 0, 59, 16, 16, 27, 79]
abbrev dktX10_come_1 : List UInt8 := dkwX10_come_1 ++ dktX10_come_2
def dkwX10_come_0 : List UInt8 := [27, 16, 64, 112, 62, 42, 180, 0, 59, 16, 8, 46, 154, 0, 88, 42, 180, 0, 59, 16, 14, 42]
abbrev dktX10_come_0 : List UInt8 := dkwX10_come_0 ++ dktX10_come_1
theorem dksX10_come_0 : cX10_come.data.toList.drop 0 = dktX10_come_0 := by decide +kernel
theorem dksX10_come_1 : cX10_come.data.toList.drop 22 = dktX10_come_1 := dk_seg dksX10_come_0 22 rfl rfl
theorem dksX10_come_2 : cX10_come.data.toList.drop 46 = dktX10_come_2 := dk_seg dksX10_come_1 24 rfl rfl
theorem dksX10_come_3 : cX10_come.data.toList.drop 69 = dktX10_come_3 := dk_seg dksX10_come_2 23 rfl rfl
theorem dksX10_come_4 : cX10_come.data.toList.drop 93 = dktX10_come_4 := dk_seg dksX10_come_3 24 rfl rfl
theorem dksX10_come_5 : cX10_come.data.toList.drop 117 = dktX10_come_5 := dk_seg dksX10_come_4 24 rfl rfl
theorem dksX10_come_6 : cX10_come.data.toList.drop 139 = dktX10_come_6 := dk_seg dksX10_come_5 22 rfl rfl
theorem dksX10_come_7 : cX10_come.data.toList.drop 163 = dktX10_come_7 := dk_seg dksX10_come_6 24 rfl rfl
theorem dksX10_come_8 : cX10_come.data.toList.drop 187 = dktX10_come_8 := dk_seg dksX10_come_7 24 rfl rfl
theorem dksX10_come_9 : cX10_come.data.toList.drop 210 = dktX10_come_9 := dk_seg dksX10_come_8 23 rfl rfl
theorem dksX10_come_10 : cX10_come.data.toList.drop 232 = dktX10_come_10 := dk_seg dksX10_come_9 22 rfl rfl
theorem dX10_come_0 : decode cX10_come 0 = .ok (.iload_n 1, 1) := dk_27 (dk_at dksX10_come_0 0 rfl rfl)
theorem dX10_come_1 : decode cX10_come 1 = .ok (.bipush 64, 2) := dk_16 64 (dk_at dksX10_come_0 1 rfl rfl)
theorem dX10_come_3 : decode cX10_come 3 = .ok (.irem, 1) := dk_112 (dk_at dksX10_come_0 3 rfl rfl)
theorem dX10_come_4 : decode cX10_come 4 = .ok (.istore_n 3, 1) := dk_62 (dk_at dksX10_come_0 4 rfl rfl)
theorem dX10_come_5 : decode cX10_come 5 = .ok (.aload_n 0, 1) := dk_42 (dk_at dksX10_come_0 5 rfl rfl)
theorem dX10_come_6 : decode cX10_come 6 = .ok (.getfield 59, 3) := dk_180 0 59 (dk_at dksX10_come_0 6 rfl rfl)
theorem dX10_come_9 : decode cX10_come 9 = .ok (.bipush 8, 2) := dk_16 8 (dk_at dksX10_come_0 9 rfl rfl)
theorem dX10_come_11 : decode cX10_come 11 = .ok (.iaload, 1) := dk_46 (dk_at dksX10_come_0 11 rfl rfl)
theorem dX10_come_12 : decode cX10_come 12 = .ok (.ifCond .ne 88, 3) := dk_154 0 88 (dk_at dksX10_come_0 12 rfl rfl)
theorem dX10_come_15 : decode cX10_come 15 = .ok (.aload_n 0, 1) := dk_42 (dk_at dksX10_come_0 15 rfl rfl)
theorem dX10_come_16 : decode cX10_come 16 = .ok (.getfield 59, 3) := dk_180 0 59 (dk_at dksX10_come_0 16 rfl rfl)
theorem dX10_come_19 : decode cX10_come 19 = .ok (.bipush 14, 2) := dk_16 14 (dk_at dksX10_come_0 19 rfl rfl)
theorem dX10_come_21 : decode cX10_come 21 = .ok (.aload_n 0, 1) := dk_42 (dk_at dksX10_come_0 21 rfl rfl)
theorem dX10_come_22 : decode cX10_come 22 = .ok (.getfield 44, 3) := dk_180 0 44 (dk_at dksX10_come_1 0 rfl rfl)
theorem dX10_come_25 : decode cX10_come 25 = .ok (.iconst 0, 1) := dk_3 (dk_at dksX10_come_1 3 rfl rfl)
theorem dX10_come_26 : decode cX10_come 26 = .ok (.iaload, 1) := dk_46 (dk_at dksX10_come_1 4 rfl rfl)
theorem dX10_come_27 : decode cX10_come 27 = .ok (.iload_n 3, 1) := dk_29 (dk_at dksX10_come_1 5 rfl rfl)
theorem dX10_come_28 : decode cX10_come 28 = .ok (.imul, 1) := dk_104 (dk_at dksX10_come_1 6 rfl rfl)
theorem dX10_come_29 : decode cX10_come 29 = .ok (.iastore, 1) := dk_79 (dk_at dksX10_come_1 7 rfl rfl)
theorem dX10_come_30 : decode cX10_come 30 = .ok (.aload_n 0, 1) := dk_42 (dk_at dksX10_come_1 8 rfl rfl)
theorem dX10_come_31 : decode cX10_come 31 = .ok (.getfield 59, 3) := dk_180 0 59 (dk_at dksX10_come_1 9 rfl rfl)
theorem dX10_come_34 : decode cX10_come 34 = .ok (.bipush 8, 2) := dk_16 8 (dk_at dksX10_come_1 12 rfl rfl)
theorem dX10_come_36 : decode cX10_come 36 = .ok (.iconst 1, 1) := dk_4 (dk_at dksX10_come_1 14 rfl rfl)
theorem dX10_come_37 : decode cX10_come 37 = .ok (.iastore, 1) := dk_79 (dk_at dksX10_come_1 15 rfl rfl)
theorem dX10_come_38 : decode cX10_come 38 = .ok (.aload_n 0, 1) := dk_42 (dk_at dksX10_come_1 16 rfl rfl)
theorem dX10_come_39 : decode cX10_come 39 = .ok (.getfield 59, 3) := dk_180 0 59 (dk_at dksX10_come_1 17 rfl rfl)
theorem dX10_come_42 : decode cX10_come 42 = .ok (.bipush 16, 2) := dk_16 16 (dk_at dksX10_come_1 20 rfl rfl)
theorem dX10_come_44 : decode cX10_come 44 = .ok (.iload_n 1, 1) := dk_27 (dk_at dksX10_come_1 22 rfl rfl)
theorem dX10_come_45 : decode cX10_come 45 = .ok (.iastore, 1) := dk_79 (dk_at dksX10_come_1 23 rfl rfl)
theorem dX10_come_46 : decode cX10_come 46 = .ok (.aload_n 0, 1) := dk_42 (dk_at dksX10_come_2 0 rfl rfl)
theorem dX10_come_47 : decode cX10_come 47 = .ok (.getfield 59, 3) := dk_180 0 59 (dk_at dksX10_come_2 1 rfl rfl)
theorem dX10_come_50 : decode cX10_come 50 = .ok (.bipush 15, 2) := dk_16 15 (dk_at dksX10_come_2 4 rfl rfl)
theorem dX10_come_52 : decode cX10_come 52 = .ok (.aload_n 0, 1) := dk_42 (dk_at dksX10_come_2 6 rfl rfl)
theorem dX10_come_53 : decode cX10_come 53 = .ok (.getfield 59, 3) := dk_180 0 59 (dk_at dksX10_come_2 7 rfl rfl)
theorem dX10_come_56 : decode cX10_come 56 = .ok (.bipush 14, 2) := dk_16 14 (dk_at dksX10_come_2 10 rfl rfl)
theorem dX10_come_58 : decode cX10_come 58 = .ok (.iaload, 1) := dk_46 (dk_at dksX10_come_2 12 rfl rfl)
theorem dX10_come_59 : decode cX10_come 59 = .ok (.iastore, 1) := dk_79 (dk_at dksX10_come_2 13 rfl rfl)
theorem dX10_come_60 : decode cX10_come 60 = .ok (.aload_n 0, 1) := dk_42 (dk_at dksX10_come_2 14 rfl rfl)
theorem dX10_come_61 : decode cX10_come 61 = .ok (.getfield 59, 3) := dk_180 0 59 (dk_at dksX10_come_2 15 rfl rfl)
theorem dX10_come_64 : decode cX10_come 64 = .ok (.bipush 17, 2) := dk_16 17 (dk_at dksX10_come_2 18 rfl rfl)
theorem dX10_come_66 : decode cX10_come 66 = .ok (.iload_n 3, 1) := dk_29 (dk_at dksX10_come_2 20 rfl rfl)
theorem dX10_come_67 : decode cX10_come 67 = .ok (.iastore, 1) := dk_79 (dk_at dksX10_come_2 21 rfl rfl)
theorem dX10_come_68 : decode cX10_come 68 = .ok (.aload_n 0, 1) := dk_42 (dk_at dksX10_come_2 22 rfl rfl)
theorem dX10_come_69 : decode cX10_come 69 = .ok (.getfield 59, 3) := dk_180 0 59 (dk_at dksX10_come_3 0 rfl rfl)
theorem dX10_come_72 : decode cX10_come 72 = .ok (.bipush 18, 2) := dk_16 18 (dk_at dksX10_come_3 3 rfl rfl)
theorem dX10_come_74 : decode cX10_come 74 = .ok (.iload_n 3, 1) := dk_29 (dk_at dksX10_come_3 5 rfl rfl)
theorem dX10_come_75 : decode cX10_come 75 = .ok (.iastore, 1) := dk_79 (dk_at dksX10_come_3 6 rfl rfl)
theorem dX10_come_76 : decode cX10_come 76 = .ok (.aload_n 0, 1) := dk_42 (dk_at dksX10_come_3 7 rfl rfl)
theorem dX10_come_77 : decode cX10_come 77 = .ok (.getfield 59, 3) := dk_180 0 59 (dk_at dksX10_come_3 8 rfl rfl)
theorem dX10_come_80 : decode cX10_come 80 = .ok (.bipush 19, 2) := dk_16 19 (dk_at dksX10_come_3 11 rfl rfl)
theorem dX10_come_82 : decode cX10_come 82 = .ok (.iload_n 2, 1) := dk_28 (dk_at dksX10_come_3 13 rfl rfl)
theorem dX10_come_83 : decode cX10_come 83 = .ok (.iastore, 1) := dk_79 (dk_at dksX10_come_3 14 rfl rfl)
theorem dX10_come_84 : decode cX10_come 84 = .ok (.aload_n 0, 1) := dk_42 (dk_at dksX10_come_3 15 rfl rfl)
theorem dX10_come_85 : decode cX10_come 85 = .ok (.getfield 59, 3) := dk_180 0 59 (dk_at dksX10_come_3 16 rfl rfl)
theorem dX10_come_88 : decode cX10_come 88 = .ok (.bipush 20, 2) := dk_16 20 (dk_at dksX10_come_3 19 rfl rfl)
theorem dX10_come_90 : decode cX10_come 90 = .ok (.iconst 0, 1) := dk_3 (dk_at dksX10_come_3 21 rfl rfl)
theorem dX10_come_91 : decode cX10_come 91 = .ok (.iastore, 1) := dk_79 (dk_at dksX10_come_3 22 rfl rfl)
theorem dX10_come_92 : decode cX10_come 92 = .ok (.aload_n 0, 1) := dk_42 (dk_at dksX10_come_3 23 rfl rfl)
theorem dX10_come_93 : decode cX10_come 93 = .ok (.getfield 59, 3) := dk_180 0 59 (dk_at dksX10_come_4 0 rfl rfl)
theorem dX10_come_96 : decode cX10_come 96 = .ok (.bipush 21, 2) := dk_16 21 (dk_at dksX10_come_4 3 rfl rfl)
theorem dX10_come_98 : decode cX10_come 98 = .ok (.iconst 0, 1) := dk_3 (dk_at dksX10_come_4 5 rfl rfl)
theorem dX10_come_99 : decode cX10_come 99 = .ok (.iastore, 1) := dk_79 (dk_at dksX10_come_4 6 rfl rfl)
theorem dX10_come_100 : decode cX10_come 100 = .ok (.iload_n 3, 1) := dk_29 (dk_at dksX10_come_4 7 rfl rfl)
theorem dX10_come_101 : decode cX10_come 101 = .ok (.aload_n 0, 1) := dk_42 (dk_at dksX10_come_4 8 rfl rfl)
theorem dX10_come_102 : decode cX10_come 102 = .ok (.invokevirtual 318, 3) := dk_182 1 62 (dk_at dksX10_come_4 9 rfl rfl)
theorem dX10_come_105 : decode cX10_come 105 = .ok (.bipush 64, 2) := dk_16 64 (dk_at dksX10_come_4 12 rfl rfl)
theorem dX10_come_107 : decode cX10_come 107 = .ok (.irem, 1) := dk_112 (dk_at dksX10_come_4 14 rfl rfl)
theorem dX10_come_108 : decode cX10_come 108 = .ok (.isub, 1) := dk_100 (dk_at dksX10_come_4 15 rfl rfl)
theorem dX10_come_109 : decode cX10_come 109 = .ok (.bipush 64, 2) := dk_16 64 (dk_at dksX10_come_4 16 rfl rfl)
theorem dX10_come_111 : decode cX10_come 111 = .ok (.iadd, 1) := dk_96 (dk_at dksX10_come_4 18 rfl rfl)
theorem dX10_come_112 : decode cX10_come 112 = .ok (.bipush 64, 2) := dk_16 64 (dk_at dksX10_come_4 19 rfl rfl)
theorem dX10_come_114 : decode cX10_come 114 = .ok (.irem, 1) := dk_112 (dk_at dksX10_come_4 21 rfl rfl)
theorem dX10_come_115 : decode cX10_come 115 = .ok (.istore 4, 2) := dk_54 4 (dk_at dksX10_come_4 22 rfl rfl)
theorem dX10_come_117 : decode cX10_come 117 = .ok (.iload 4, 2) := dk_21 4 (dk_at dksX10_come_5 0 rfl rfl)
theorem dX10_come_119 : decode cX10_come 119 = .ok (.bipush 32, 2) := dk_16 32 (dk_at dksX10_come_5 2 rfl rfl)
theorem dX10_come_121 : decode cX10_come 121 = .ok (.if_icmp .lt 14, 3) := dk_161 0 14 (dk_at dksX10_come_5 4 rfl rfl)
theorem dX10_come_124 : decode cX10_come 124 = .ok (.aload_n 0, 1) := dk_42 (dk_at dksX10_come_5 7 rfl rfl)
theorem dX10_come_125 : decode cX10_come 125 = .ok (.getfield 59, 3) := dk_180 0 59 (dk_at dksX10_come_5 8 rfl rfl)
theorem dX10_come_128 : decode cX10_come 128 = .ok (.iconst 4, 1) := dk_7 (dk_at dksX10_come_5 11 rfl rfl)
theorem dX10_come_129 : decode cX10_come 129 = .ok (.dup2, 1) := dk_92 (dk_at dksX10_come_5 12 rfl rfl)
theorem dX10_come_130 : decode cX10_come 130 = .ok (.iaload, 1) := dk_46 (dk_at dksX10_come_5 13 rfl rfl)
theorem dX10_come_131 : decode cX10_come 131 = .ok (.iconst 1, 1) := dk_4 (dk_at dksX10_come_5 14 rfl rfl)
theorem dX10_come_132 : decode cX10_come 132 = .ok (.iadd, 1) := dk_96 (dk_at dksX10_come_5 15 rfl rfl)
theorem dX10_come_133 : decode cX10_come 133 = .ok (.iastore, 1) := dk_79 (dk_at dksX10_come_5 16 rfl rfl)
theorem dX10_come_134 : decode cX10_come 134 = .ok (.return_, 1) := dk_177 (dk_at dksX10_come_5 17 rfl rfl)
theorem dX10_come_135 : decode cX10_come 135 = .ok (.iload 4, 2) := dk_21 4 (dk_at dksX10_come_5 18 rfl rfl)
theorem dX10_come_137 : decode cX10_come 137 = .ok (.bipush 16, 2) := dk_16 16 (dk_at dksX10_come_5 20 rfl rfl)
theorem dX10_come_139 : decode cX10_come 139 = .ok (.if_icmp .lt 14, 3) := dk_161 0 14 (dk_at dksX10_come_6 0 rfl rfl)
theorem dX10_come_142 : decode cX10_come 142 = .ok (.aload_n 0, 1) := dk_42 (dk_at dksX10_come_6 3 rfl rfl)
theorem dX10_come_143 : decode cX10_come 143 = .ok (.getfield 59, 3) := dk_180 0 59 (dk_at dksX10_come_6 4 rfl rfl)
theorem dX10_come_146 : decode cX10_come 146 = .ok (.iconst 5, 1) := dk_8 (dk_at dksX10_come_6 7 rfl rfl)
theorem dX10_come_147 : decode cX10_come 147 = .ok (.dup2, 1) := dk_92 (dk_at dksX10_come_6 8 rfl rfl)
theorem dX10_come_148 : decode cX10_come 148 = .ok (.iaload, 1) := dk_46 (dk_at dksX10_come_6 9 rfl rfl)
theorem dX10_come_149 : decode cX10_come 149 = .ok (.iconst 1, 1) := dk_4 (dk_at dksX10_come_6 10 rfl rfl)
theorem dX10_come_150 : decode cX10_come 150 = .ok (.iadd, 1) := dk_96 (dk_at dksX10_come_6 11 rfl rfl)
theorem dX10_come_151 : decode cX10_come 151 = .ok (.iastore, 1) := dk_79 (dk_at dksX10_come_6 12 rfl rfl)
theorem dX10_come_152 : decode cX10_come 152 = .ok (.return_, 1) := dk_177 (dk_at dksX10_come_6 13 rfl rfl)
theorem dX10_come_153 : decode cX10_come 153 = .ok (.aload_n 0, 1) := dk_42 (dk_at dksX10_come_6 14 rfl rfl)
theorem dX10_come_154 : decode cX10_come 154 = .ok (.invokevirtual 318, 3) := dk_182 1 62 (dk_at dksX10_come_6 15 rfl rfl)
theorem dX10_come_157 : decode cX10_come 157 = .ok (.iload 4, 2) := dk_21 4 (dk_at dksX10_come_6 18 rfl rfl)
theorem dX10_come_159 : decode cX10_come 159 = .ok (.iadd, 1) := dk_96 (dk_at dksX10_come_6 20 rfl rfl)
theorem dX10_come_160 : decode cX10_come 160 = .ok (.istore 5, 2) := dk_54 5 (dk_at dksX10_come_6 21 rfl rfl)
theorem dX10_come_162 : decode cX10_come 162 = .ok (.aload_n 0, 1) := dk_42 (dk_at dksX10_come_6 23 rfl rfl)
theorem dX10_come_163 : decode cX10_come 163 = .ok (.getfield 59, 3) := dk_180 0 59 (dk_at dksX10_come_7 0 rfl rfl)
theorem dX10_come_166 : decode cX10_come 166 = .ok (.sipush 153, 3) := dk_17 0 153 (dk_at dksX10_come_7 3 rfl rfl)
theorem dX10_come_169 : decode cX10_come 169 = .ok (.iload_n 3, 1) := dk_29 (dk_at dksX10_come_7 6 rfl rfl)
theorem dX10_come_170 : decode cX10_come 170 = .ok (.iadd, 1) := dk_96 (dk_at dksX10_come_7 7 rfl rfl)
theorem dX10_come_171 : decode cX10_come 171 = .ok (.iload_n 1, 1) := dk_27 (dk_at dksX10_come_7 8 rfl rfl)
theorem dX10_come_172 : decode cX10_come 172 = .ok (.iastore, 1) := dk_79 (dk_at dksX10_come_7 9 rfl rfl)
theorem dX10_come_173 : decode cX10_come 173 = .ok (.aload_n 0, 1) := dk_42 (dk_at dksX10_come_7 10 rfl rfl)
theorem dX10_come_174 : decode cX10_come 174 = .ok (.getfield 59, 3) := dk_180 0 59 (dk_at dksX10_come_7 11 rfl rfl)
theorem dX10_come_177 : decode cX10_come 177 = .ok (.sipush 217, 3) := dk_17 0 217 (dk_at dksX10_come_7 14 rfl rfl)
theorem dX10_come_180 : decode cX10_come 180 = .ok (.iload_n 3, 1) := dk_29 (dk_at dksX10_come_7 17 rfl rfl)
theorem dX10_come_181 : decode cX10_come 181 = .ok (.iadd, 1) := dk_96 (dk_at dksX10_come_7 18 rfl rfl)
theorem dX10_come_182 : decode cX10_come 182 = .ok (.iload 5, 2) := dk_21 5 (dk_at dksX10_come_7 19 rfl rfl)
theorem dX10_come_184 : decode cX10_come 184 = .ok (.iastore, 1) := dk_79 (dk_at dksX10_come_7 21 rfl rfl)
theorem dX10_come_185 : decode cX10_come 185 = .ok (.iload 5, 2) := dk_21 5 (dk_at dksX10_come_7 22 rfl rfl)
theorem dX10_come_187 : decode cX10_come 187 = .ok (.aload_n 0, 1) := dk_42 (dk_at dksX10_come_8 0 rfl rfl)
theorem dX10_come_188 : decode cX10_come 188 = .ok (.getfield 59, 3) := dk_180 0 59 (dk_at dksX10_come_8 1 rfl rfl)
theorem dX10_come_191 : decode cX10_come 191 = .ok (.bipush 18, 2) := dk_16 18 (dk_at dksX10_come_8 4 rfl rfl)
theorem dX10_come_193 : decode cX10_come 193 = .ok (.iaload, 1) := dk_46 (dk_at dksX10_come_8 6 rfl rfl)
theorem dX10_come_194 : decode cX10_come 194 = .ok (.if_icmp .gt 4, 3) := dk_163 0 4 (dk_at dksX10_come_8 7 rfl rfl)
theorem dX10_come_197 : decode cX10_come 197 = .ok (.return_, 1) := dk_177 (dk_at dksX10_come_8 10 rfl rfl)
theorem dX10_come_198 : decode cX10_come 198 = .ok (.aload_n 0, 1) := dk_42 (dk_at dksX10_come_8 11 rfl rfl)
theorem dX10_come_199 : decode cX10_come 199 = .ok (.getfield 59, 3) := dk_180 0 59 (dk_at dksX10_come_8 12 rfl rfl)
theorem dX10_come_202 : decode cX10_come 202 = .ok (.bipush 21, 2) := dk_16 21 (dk_at dksX10_come_8 15 rfl rfl)
theorem dX10_come_204 : decode cX10_come 204 = .ok (.iload 5, 2) := dk_21 5 (dk_at dksX10_come_8 17 rfl rfl)
theorem dX10_come_206 : decode cX10_come 206 = .ok (.aload_n 0, 1) := dk_42 (dk_at dksX10_come_8 19 rfl rfl)
theorem dX10_come_207 : decode cX10_come 207 = .ok (.getfield 59, 3) := dk_180 0 59 (dk_at dksX10_come_8 20 rfl rfl)
theorem dX10_come_210 : decode cX10_come 210 = .ok (.bipush 17, 2) := dk_16 17 (dk_at dksX10_come_9 0 rfl rfl)
theorem dX10_come_212 : decode cX10_come 212 = .ok (.iaload, 1) := dk_46 (dk_at dksX10_come_9 2 rfl rfl)
theorem dX10_come_213 : decode cX10_come 213 = .ok (.isub, 1) := dk_100 (dk_at dksX10_come_9 3 rfl rfl)
theorem dX10_come_214 : decode cX10_come 214 = .ok (.iastore, 1) := dk_79 (dk_at dksX10_come_9 4 rfl rfl)
theorem dX10_come_215 : decode cX10_come 215 = .ok (.aload_n 0, 1) := dk_42 (dk_at dksX10_come_9 5 rfl rfl)
theorem dX10_come_216 : decode cX10_come 216 = .ok (.getfield 59, 3) := dk_180 0 59 (dk_at dksX10_come_9 6 rfl rfl)
theorem dX10_come_219 : decode cX10_come 219 = .ok (.bipush 20, 2) := dk_16 20 (dk_at dksX10_come_9 9 rfl rfl)
theorem dX10_come_221 : decode cX10_come 221 = .ok (.dup2, 1) := dk_92 (dk_at dksX10_come_9 11 rfl rfl)
theorem dX10_come_222 : decode cX10_come 222 = .ok (.iaload, 1) := dk_46 (dk_at dksX10_come_9 12 rfl rfl)
theorem dX10_come_223 : decode cX10_come 223 = .ok (.iload_n 2, 1) := dk_28 (dk_at dksX10_come_9 13 rfl rfl)
theorem dX10_come_224 : decode cX10_come 224 = .ok (.aload_n 0, 1) := dk_42 (dk_at dksX10_come_9 14 rfl rfl)
theorem dX10_come_225 : decode cX10_come 225 = .ok (.getfield 59, 3) := dk_180 0 59 (dk_at dksX10_come_9 15 rfl rfl)
theorem dX10_come_228 : decode cX10_come 228 = .ok (.bipush 19, 2) := dk_16 19 (dk_at dksX10_come_9 18 rfl rfl)
theorem dX10_come_230 : decode cX10_come 230 = .ok (.iaload, 1) := dk_46 (dk_at dksX10_come_9 20 rfl rfl)
theorem dX10_come_231 : decode cX10_come 231 = .ok (.isub, 1) := dk_100 (dk_at dksX10_come_9 21 rfl rfl)
theorem dX10_come_232 : decode cX10_come 232 = .ok (.sipush 255, 3) := dk_17 0 255 (dk_at dksX10_come_10 0 rfl rfl)
theorem dX10_come_235 : decode cX10_come 235 = .ok (.iand, 1) := dk_126 (dk_at dksX10_come_10 3 rfl rfl)
theorem dX10_come_236 : decode cX10_come 236 = .ok (.iadd, 1) := dk_96 (dk_at dksX10_come_10 4 rfl rfl)
theorem dX10_come_237 : decode cX10_come 237 = .ok (.iastore, 1) := dk_79 (dk_at dksX10_come_10 5 rfl rfl)
theorem dX10_come_238 : decode cX10_come 238 = .ok (.aload_n 0, 1) := dk_42 (dk_at dksX10_come_10 6 rfl rfl)
theorem dX10_come_239 : decode cX10_come 239 = .ok (.getfield 59, 3) := dk_180 0 59 (dk_at dksX10_come_10 7 rfl rfl)
theorem dX10_come_242 : decode cX10_come 242 = .ok (.bipush 18, 2) := dk_16 18 (dk_at dksX10_come_10 10 rfl rfl)
theorem dX10_come_244 : decode cX10_come 244 = .ok (.iload 5, 2) := dk_21 5 (dk_at dksX10_come_10 12 rfl rfl)
theorem dX10_come_246 : decode cX10_come 246 = .ok (.iastore, 1) := dk_79 (dk_at dksX10_come_10 14 rfl rfl)
theorem dX10_come_247 : decode cX10_come 247 = .ok (.aload_n 0, 1) := dk_42 (dk_at dksX10_come_10 15 rfl rfl)
theorem dX10_come_248 : decode cX10_come 248 = .ok (.getfield 59, 3) := dk_180 0 59 (dk_at dksX10_come_10 16 rfl rfl)
theorem dX10_come_251 : decode cX10_come 251 = .ok (.bipush 19, 2) := dk_16 19 (dk_at dksX10_come_10 19 rfl rfl)
theorem dX10_come_253 : decode cX10_come 253 = .ok (.iload_n 2, 1) := dk_28 (dk_at dksX10_come_10 21 rfl rfl)
theorem dX10_come_254 : decode cX10_come 254 = .ok (.iastore, 1) := dk_79 (dk_at dksX10_come_10 22 rfl rfl)
theorem dX10_come_255 : decode cX10_come 255 = .ok (.return_, 1) := dk_177 (dk_at dksX10_come_10 23 rfl rfl)
abbrev cX10_steer : ByteArray := prog_22_method_47_code
def yX10_steer : MethodName := ⟨RX10, "steer", "()V"⟩
def dkwX10_steer_8 : List UInt8 := [180, 0, 59, 16, 11, 46, 79, 42, 180, 0, 59, 16, 32, 92, 46, 4, 96, 79, 177]
abbrev dktX10_steer_8 : List UInt8 := dkwX10_steer_8 ++ []
def dkwX10_steer_7 : List UInt8 := [184, 1, 52, 79, 42, 180, 0, 59, 17, 1, 25, 42, 180, 0, 59, 16, 32, 46, 17, 0, 128, 112, 96, 42]
abbrev dktX10_steer_7 : List UInt8 := dkwX10_steer_7 ++ dktX10_steer_8
def dkwX10_steer_6 : List UInt8 := [180, 1, 10, 28, 104, 42, 180, 0, 59, 16, 10, 46, 96, 16, 16, 108, 17, 255, 56, 17, 0, 200]
abbrev dktX10_steer_6 : List UInt8 := dkwX10_steer_6 ++ dktX10_steer_7
def dkwX10_steer_5 : List UInt8 := [180, 1, 13, 28, 104, 96, 17, 243, 128, 17, 12, 128, 184, 1, 52, 79, 42, 180, 0, 59, 16, 9, 42]
abbrev dktX10_steer_5 : List UInt8 := dkwX10_steer_5 ++ dktX10_steer_6
def dkwX10_steer_4 : List UInt8 := [27, 42, 180, 0, 59, 16, 29, 46, 100, 61, 42, 180, 0, 59, 16, 10, 42, 180, 0, 59, 16, 10, 46, 42]
abbrev dktX10_steer_4 : List UInt8 := dkwX10_steer_4 ++ dktX10_steer_5
def dkwX10_steer_3 : List UInt8 := [16, 8, 46, 5, 160, 0, 19, 42, 180, 0, 59, 3, 46, 42, 180, 0, 44, 7, 46, 112, 153, 0, 4, 177]
abbrev dktX10_steer_3 : List UInt8 := dkwX10_steer_3 ++ dktX10_steer_4
def dkwX10_steer_2 : List UInt8 := [16, 10, 3, 79, 42, 180, 0, 59, 16, 9, 3, 79, 42, 180, 0, 59, 16, 11, 3, 79, 42, 180, 0, 59]
abbrev dktX10_steer_2 : List UInt8 := dkwX10_steer_2 ++ dktX10_steer_3
def dkwX10_steer_1 : List UInt8 := [161, 0, 43, 42, 180, 0, 59, 16, 8, 5, 79, 42, 180, 0, 59, 16, 23, 3, 79, 42, 180, 0, 59]
abbrev dktX10_steer_1 : List UInt8 := dkwX10_steer_1 ++ dktX10_steer_2
def dkwX10_steer_0 : List UInt8 := [42, 182, 1, 69, 60, 42, 180, 0, 59, 16, 8, 46, 4, 160, 0, 54, 27, 42, 180, 0, 59, 16, 29, 46]
abbrev dktX10_steer_0 : List UInt8 := dkwX10_steer_0 ++ dktX10_steer_1
theorem dksX10_steer_0 : cX10_steer.data.toList.drop 0 = dktX10_steer_0 := by decide +kernel
theorem dksX10_steer_1 : cX10_steer.data.toList.drop 24 = dktX10_steer_1 := dk_seg dksX10_steer_0 24 rfl rfl
theorem dksX10_steer_2 : cX10_steer.data.toList.drop 47 = dktX10_steer_2 := dk_seg dksX10_steer_1 23 rfl rfl
theorem dksX10_steer_3 : cX10_steer.data.toList.drop 71 = dktX10_steer_3 := dk_seg dksX10_steer_2 24 rfl rfl
theorem dksX10_steer_4 : cX10_steer.data.toList.drop 95 = dktX10_steer_4 := dk_seg dksX10_steer_3 24 rfl rfl
theorem dksX10_steer_5 : cX10_steer.data.toList.drop 119 = dktX10_steer_5 := dk_seg dksX10_steer_4 24 rfl rfl
theorem dksX10_steer_6 : cX10_steer.data.toList.drop 142 = dktX10_steer_6 := dk_seg dksX10_steer_5 23 rfl rfl
theorem dksX10_steer_7 : cX10_steer.data.toList.drop 164 = dktX10_steer_7 := dk_seg dksX10_steer_6 22 rfl rfl
theorem dksX10_steer_8 : cX10_steer.data.toList.drop 188 = dktX10_steer_8 := dk_seg dksX10_steer_7 24 rfl rfl
theorem dX10_steer_0 : decode cX10_steer 0 = .ok (.aload_n 0, 1) := dk_42 (dk_at dksX10_steer_0 0 rfl rfl)
theorem dX10_steer_1 : decode cX10_steer 1 = .ok (.invokevirtual 325, 3) := dk_182 1 69 (dk_at dksX10_steer_0 1 rfl rfl)
theorem dX10_steer_4 : decode cX10_steer 4 = .ok (.istore_n 1, 1) := dk_60 (dk_at dksX10_steer_0 4 rfl rfl)
theorem dX10_steer_5 : decode cX10_steer 5 = .ok (.aload_n 0, 1) := dk_42 (dk_at dksX10_steer_0 5 rfl rfl)
theorem dX10_steer_6 : decode cX10_steer 6 = .ok (.getfield 59, 3) := dk_180 0 59 (dk_at dksX10_steer_0 6 rfl rfl)
theorem dX10_steer_9 : decode cX10_steer 9 = .ok (.bipush 8, 2) := dk_16 8 (dk_at dksX10_steer_0 9 rfl rfl)
theorem dX10_steer_11 : decode cX10_steer 11 = .ok (.iaload, 1) := dk_46 (dk_at dksX10_steer_0 11 rfl rfl)
theorem dX10_steer_12 : decode cX10_steer 12 = .ok (.iconst 1, 1) := dk_4 (dk_at dksX10_steer_0 12 rfl rfl)
theorem dX10_steer_13 : decode cX10_steer 13 = .ok (.if_icmp .ne 54, 3) := dk_160 0 54 (dk_at dksX10_steer_0 13 rfl rfl)
theorem dX10_steer_16 : decode cX10_steer 16 = .ok (.iload_n 1, 1) := dk_27 (dk_at dksX10_steer_0 16 rfl rfl)
theorem dX10_steer_17 : decode cX10_steer 17 = .ok (.aload_n 0, 1) := dk_42 (dk_at dksX10_steer_0 17 rfl rfl)
theorem dX10_steer_18 : decode cX10_steer 18 = .ok (.getfield 59, 3) := dk_180 0 59 (dk_at dksX10_steer_0 18 rfl rfl)
theorem dX10_steer_21 : decode cX10_steer 21 = .ok (.bipush 29, 2) := dk_16 29 (dk_at dksX10_steer_0 21 rfl rfl)
theorem dX10_steer_23 : decode cX10_steer 23 = .ok (.iaload, 1) := dk_46 (dk_at dksX10_steer_0 23 rfl rfl)
theorem dX10_steer_24 : decode cX10_steer 24 = .ok (.if_icmp .lt 43, 3) := dk_161 0 43 (dk_at dksX10_steer_1 0 rfl rfl)
theorem dX10_steer_27 : decode cX10_steer 27 = .ok (.aload_n 0, 1) := dk_42 (dk_at dksX10_steer_1 3 rfl rfl)
theorem dX10_steer_28 : decode cX10_steer 28 = .ok (.getfield 59, 3) := dk_180 0 59 (dk_at dksX10_steer_1 4 rfl rfl)
theorem dX10_steer_31 : decode cX10_steer 31 = .ok (.bipush 8, 2) := dk_16 8 (dk_at dksX10_steer_1 7 rfl rfl)
theorem dX10_steer_33 : decode cX10_steer 33 = .ok (.iconst 2, 1) := dk_5 (dk_at dksX10_steer_1 9 rfl rfl)
theorem dX10_steer_34 : decode cX10_steer 34 = .ok (.iastore, 1) := dk_79 (dk_at dksX10_steer_1 10 rfl rfl)
theorem dX10_steer_35 : decode cX10_steer 35 = .ok (.aload_n 0, 1) := dk_42 (dk_at dksX10_steer_1 11 rfl rfl)
theorem dX10_steer_36 : decode cX10_steer 36 = .ok (.getfield 59, 3) := dk_180 0 59 (dk_at dksX10_steer_1 12 rfl rfl)
theorem dX10_steer_39 : decode cX10_steer 39 = .ok (.bipush 23, 2) := dk_16 23 (dk_at dksX10_steer_1 15 rfl rfl)
theorem dX10_steer_41 : decode cX10_steer 41 = .ok (.iconst 0, 1) := dk_3 (dk_at dksX10_steer_1 17 rfl rfl)
theorem dX10_steer_42 : decode cX10_steer 42 = .ok (.iastore, 1) := dk_79 (dk_at dksX10_steer_1 18 rfl rfl)
theorem dX10_steer_43 : decode cX10_steer 43 = .ok (.aload_n 0, 1) := dk_42 (dk_at dksX10_steer_1 19 rfl rfl)
theorem dX10_steer_44 : decode cX10_steer 44 = .ok (.getfield 59, 3) := dk_180 0 59 (dk_at dksX10_steer_1 20 rfl rfl)
theorem dX10_steer_47 : decode cX10_steer 47 = .ok (.bipush 10, 2) := dk_16 10 (dk_at dksX10_steer_2 0 rfl rfl)
theorem dX10_steer_49 : decode cX10_steer 49 = .ok (.iconst 0, 1) := dk_3 (dk_at dksX10_steer_2 2 rfl rfl)
theorem dX10_steer_50 : decode cX10_steer 50 = .ok (.iastore, 1) := dk_79 (dk_at dksX10_steer_2 3 rfl rfl)
theorem dX10_steer_51 : decode cX10_steer 51 = .ok (.aload_n 0, 1) := dk_42 (dk_at dksX10_steer_2 4 rfl rfl)
theorem dX10_steer_52 : decode cX10_steer 52 = .ok (.getfield 59, 3) := dk_180 0 59 (dk_at dksX10_steer_2 5 rfl rfl)
theorem dX10_steer_55 : decode cX10_steer 55 = .ok (.bipush 9, 2) := dk_16 9 (dk_at dksX10_steer_2 8 rfl rfl)
theorem dX10_steer_57 : decode cX10_steer 57 = .ok (.iconst 0, 1) := dk_3 (dk_at dksX10_steer_2 10 rfl rfl)
theorem dX10_steer_58 : decode cX10_steer 58 = .ok (.iastore, 1) := dk_79 (dk_at dksX10_steer_2 11 rfl rfl)
theorem dX10_steer_59 : decode cX10_steer 59 = .ok (.aload_n 0, 1) := dk_42 (dk_at dksX10_steer_2 12 rfl rfl)
theorem dX10_steer_60 : decode cX10_steer 60 = .ok (.getfield 59, 3) := dk_180 0 59 (dk_at dksX10_steer_2 13 rfl rfl)
theorem dX10_steer_63 : decode cX10_steer 63 = .ok (.bipush 11, 2) := dk_16 11 (dk_at dksX10_steer_2 16 rfl rfl)
theorem dX10_steer_65 : decode cX10_steer 65 = .ok (.iconst 0, 1) := dk_3 (dk_at dksX10_steer_2 18 rfl rfl)
theorem dX10_steer_66 : decode cX10_steer 66 = .ok (.iastore, 1) := dk_79 (dk_at dksX10_steer_2 19 rfl rfl)
theorem dX10_steer_67 : decode cX10_steer 67 = .ok (.aload_n 0, 1) := dk_42 (dk_at dksX10_steer_2 20 rfl rfl)
theorem dX10_steer_68 : decode cX10_steer 68 = .ok (.getfield 59, 3) := dk_180 0 59 (dk_at dksX10_steer_2 21 rfl rfl)
theorem dX10_steer_71 : decode cX10_steer 71 = .ok (.bipush 8, 2) := dk_16 8 (dk_at dksX10_steer_3 0 rfl rfl)
theorem dX10_steer_73 : decode cX10_steer 73 = .ok (.iaload, 1) := dk_46 (dk_at dksX10_steer_3 2 rfl rfl)
theorem dX10_steer_74 : decode cX10_steer 74 = .ok (.iconst 2, 1) := dk_5 (dk_at dksX10_steer_3 3 rfl rfl)
theorem dX10_steer_75 : decode cX10_steer 75 = .ok (.if_icmp .ne 19, 3) := dk_160 0 19 (dk_at dksX10_steer_3 4 rfl rfl)
theorem dX10_steer_78 : decode cX10_steer 78 = .ok (.aload_n 0, 1) := dk_42 (dk_at dksX10_steer_3 7 rfl rfl)
theorem dX10_steer_79 : decode cX10_steer 79 = .ok (.getfield 59, 3) := dk_180 0 59 (dk_at dksX10_steer_3 8 rfl rfl)
theorem dX10_steer_82 : decode cX10_steer 82 = .ok (.iconst 0, 1) := dk_3 (dk_at dksX10_steer_3 11 rfl rfl)
theorem dX10_steer_83 : decode cX10_steer 83 = .ok (.iaload, 1) := dk_46 (dk_at dksX10_steer_3 12 rfl rfl)
theorem dX10_steer_84 : decode cX10_steer 84 = .ok (.aload_n 0, 1) := dk_42 (dk_at dksX10_steer_3 13 rfl rfl)
theorem dX10_steer_85 : decode cX10_steer 85 = .ok (.getfield 44, 3) := dk_180 0 44 (dk_at dksX10_steer_3 14 rfl rfl)
theorem dX10_steer_88 : decode cX10_steer 88 = .ok (.iconst 4, 1) := dk_7 (dk_at dksX10_steer_3 17 rfl rfl)
theorem dX10_steer_89 : decode cX10_steer 89 = .ok (.iaload, 1) := dk_46 (dk_at dksX10_steer_3 18 rfl rfl)
theorem dX10_steer_90 : decode cX10_steer 90 = .ok (.irem, 1) := dk_112 (dk_at dksX10_steer_3 19 rfl rfl)
theorem dX10_steer_91 : decode cX10_steer 91 = .ok (.ifCond .eq 4, 3) := dk_153 0 4 (dk_at dksX10_steer_3 20 rfl rfl)
theorem dX10_steer_94 : decode cX10_steer 94 = .ok (.return_, 1) := dk_177 (dk_at dksX10_steer_3 23 rfl rfl)
theorem dX10_steer_95 : decode cX10_steer 95 = .ok (.iload_n 1, 1) := dk_27 (dk_at dksX10_steer_4 0 rfl rfl)
theorem dX10_steer_96 : decode cX10_steer 96 = .ok (.aload_n 0, 1) := dk_42 (dk_at dksX10_steer_4 1 rfl rfl)
theorem dX10_steer_97 : decode cX10_steer 97 = .ok (.getfield 59, 3) := dk_180 0 59 (dk_at dksX10_steer_4 2 rfl rfl)
theorem dX10_steer_100 : decode cX10_steer 100 = .ok (.bipush 29, 2) := dk_16 29 (dk_at dksX10_steer_4 5 rfl rfl)
theorem dX10_steer_102 : decode cX10_steer 102 = .ok (.iaload, 1) := dk_46 (dk_at dksX10_steer_4 7 rfl rfl)
theorem dX10_steer_103 : decode cX10_steer 103 = .ok (.isub, 1) := dk_100 (dk_at dksX10_steer_4 8 rfl rfl)
theorem dX10_steer_104 : decode cX10_steer 104 = .ok (.istore_n 2, 1) := dk_61 (dk_at dksX10_steer_4 9 rfl rfl)
theorem dX10_steer_105 : decode cX10_steer 105 = .ok (.aload_n 0, 1) := dk_42 (dk_at dksX10_steer_4 10 rfl rfl)
theorem dX10_steer_106 : decode cX10_steer 106 = .ok (.getfield 59, 3) := dk_180 0 59 (dk_at dksX10_steer_4 11 rfl rfl)
theorem dX10_steer_109 : decode cX10_steer 109 = .ok (.bipush 10, 2) := dk_16 10 (dk_at dksX10_steer_4 14 rfl rfl)
theorem dX10_steer_111 : decode cX10_steer 111 = .ok (.aload_n 0, 1) := dk_42 (dk_at dksX10_steer_4 16 rfl rfl)
theorem dX10_steer_112 : decode cX10_steer 112 = .ok (.getfield 59, 3) := dk_180 0 59 (dk_at dksX10_steer_4 17 rfl rfl)
theorem dX10_steer_115 : decode cX10_steer 115 = .ok (.bipush 10, 2) := dk_16 10 (dk_at dksX10_steer_4 20 rfl rfl)
theorem dX10_steer_117 : decode cX10_steer 117 = .ok (.iaload, 1) := dk_46 (dk_at dksX10_steer_4 22 rfl rfl)
theorem dX10_steer_118 : decode cX10_steer 118 = .ok (.aload_n 0, 1) := dk_42 (dk_at dksX10_steer_4 23 rfl rfl)
theorem dX10_steer_119 : decode cX10_steer 119 = .ok (.getfield 269, 3) := dk_180 1 13 (dk_at dksX10_steer_5 0 rfl rfl)
theorem dX10_steer_122 : decode cX10_steer 122 = .ok (.iload_n 2, 1) := dk_28 (dk_at dksX10_steer_5 3 rfl rfl)
theorem dX10_steer_123 : decode cX10_steer 123 = .ok (.imul, 1) := dk_104 (dk_at dksX10_steer_5 4 rfl rfl)
theorem dX10_steer_124 : decode cX10_steer 124 = .ok (.iadd, 1) := dk_96 (dk_at dksX10_steer_5 5 rfl rfl)
theorem dX10_steer_125 : decode cX10_steer 125 = .ok (.sipush (-3200), 3) := dk_17 243 128 (dk_at dksX10_steer_5 6 rfl rfl)
theorem dX10_steer_128 : decode cX10_steer 128 = .ok (.sipush 3200, 3) := dk_17 12 128 (dk_at dksX10_steer_5 9 rfl rfl)
theorem dX10_steer_131 : decode cX10_steer 131 = .ok (.invokestatic 308, 3) := dk_184 1 52 (dk_at dksX10_steer_5 12 rfl rfl)
theorem dX10_steer_134 : decode cX10_steer 134 = .ok (.iastore, 1) := dk_79 (dk_at dksX10_steer_5 15 rfl rfl)
theorem dX10_steer_135 : decode cX10_steer 135 = .ok (.aload_n 0, 1) := dk_42 (dk_at dksX10_steer_5 16 rfl rfl)
theorem dX10_steer_136 : decode cX10_steer 136 = .ok (.getfield 59, 3) := dk_180 0 59 (dk_at dksX10_steer_5 17 rfl rfl)
theorem dX10_steer_139 : decode cX10_steer 139 = .ok (.bipush 9, 2) := dk_16 9 (dk_at dksX10_steer_5 20 rfl rfl)
theorem dX10_steer_141 : decode cX10_steer 141 = .ok (.aload_n 0, 1) := dk_42 (dk_at dksX10_steer_5 22 rfl rfl)
theorem dX10_steer_142 : decode cX10_steer 142 = .ok (.getfield 266, 3) := dk_180 1 10 (dk_at dksX10_steer_6 0 rfl rfl)
theorem dX10_steer_145 : decode cX10_steer 145 = .ok (.iload_n 2, 1) := dk_28 (dk_at dksX10_steer_6 3 rfl rfl)
theorem dX10_steer_146 : decode cX10_steer 146 = .ok (.imul, 1) := dk_104 (dk_at dksX10_steer_6 4 rfl rfl)
theorem dX10_steer_147 : decode cX10_steer 147 = .ok (.aload_n 0, 1) := dk_42 (dk_at dksX10_steer_6 5 rfl rfl)
theorem dX10_steer_148 : decode cX10_steer 148 = .ok (.getfield 59, 3) := dk_180 0 59 (dk_at dksX10_steer_6 6 rfl rfl)
theorem dX10_steer_151 : decode cX10_steer 151 = .ok (.bipush 10, 2) := dk_16 10 (dk_at dksX10_steer_6 9 rfl rfl)
theorem dX10_steer_153 : decode cX10_steer 153 = .ok (.iaload, 1) := dk_46 (dk_at dksX10_steer_6 11 rfl rfl)
theorem dX10_steer_154 : decode cX10_steer 154 = .ok (.iadd, 1) := dk_96 (dk_at dksX10_steer_6 12 rfl rfl)
theorem dX10_steer_155 : decode cX10_steer 155 = .ok (.bipush 16, 2) := dk_16 16 (dk_at dksX10_steer_6 13 rfl rfl)
theorem dX10_steer_157 : decode cX10_steer 157 = .ok (.idiv, 1) := dk_108 (dk_at dksX10_steer_6 15 rfl rfl)
theorem dX10_steer_158 : decode cX10_steer 158 = .ok (.sipush (-200), 3) := dk_17 255 56 (dk_at dksX10_steer_6 16 rfl rfl)
theorem dX10_steer_161 : decode cX10_steer 161 = .ok (.sipush 200, 3) := dk_17 0 200 (dk_at dksX10_steer_6 19 rfl rfl)
theorem dX10_steer_164 : decode cX10_steer 164 = .ok (.invokestatic 308, 3) := dk_184 1 52 (dk_at dksX10_steer_7 0 rfl rfl)
theorem dX10_steer_167 : decode cX10_steer 167 = .ok (.iastore, 1) := dk_79 (dk_at dksX10_steer_7 3 rfl rfl)
theorem dX10_steer_168 : decode cX10_steer 168 = .ok (.aload_n 0, 1) := dk_42 (dk_at dksX10_steer_7 4 rfl rfl)
theorem dX10_steer_169 : decode cX10_steer 169 = .ok (.getfield 59, 3) := dk_180 0 59 (dk_at dksX10_steer_7 5 rfl rfl)
theorem dX10_steer_172 : decode cX10_steer 172 = .ok (.sipush 281, 3) := dk_17 1 25 (dk_at dksX10_steer_7 8 rfl rfl)
theorem dX10_steer_175 : decode cX10_steer 175 = .ok (.aload_n 0, 1) := dk_42 (dk_at dksX10_steer_7 11 rfl rfl)
theorem dX10_steer_176 : decode cX10_steer 176 = .ok (.getfield 59, 3) := dk_180 0 59 (dk_at dksX10_steer_7 12 rfl rfl)
theorem dX10_steer_179 : decode cX10_steer 179 = .ok (.bipush 32, 2) := dk_16 32 (dk_at dksX10_steer_7 15 rfl rfl)
theorem dX10_steer_181 : decode cX10_steer 181 = .ok (.iaload, 1) := dk_46 (dk_at dksX10_steer_7 17 rfl rfl)
theorem dX10_steer_182 : decode cX10_steer 182 = .ok (.sipush 128, 3) := dk_17 0 128 (dk_at dksX10_steer_7 18 rfl rfl)
theorem dX10_steer_185 : decode cX10_steer 185 = .ok (.irem, 1) := dk_112 (dk_at dksX10_steer_7 21 rfl rfl)
theorem dX10_steer_186 : decode cX10_steer 186 = .ok (.iadd, 1) := dk_96 (dk_at dksX10_steer_7 22 rfl rfl)
theorem dX10_steer_187 : decode cX10_steer 187 = .ok (.aload_n 0, 1) := dk_42 (dk_at dksX10_steer_7 23 rfl rfl)
theorem dX10_steer_188 : decode cX10_steer 188 = .ok (.getfield 59, 3) := dk_180 0 59 (dk_at dksX10_steer_8 0 rfl rfl)
theorem dX10_steer_191 : decode cX10_steer 191 = .ok (.bipush 11, 2) := dk_16 11 (dk_at dksX10_steer_8 3 rfl rfl)
theorem dX10_steer_193 : decode cX10_steer 193 = .ok (.iaload, 1) := dk_46 (dk_at dksX10_steer_8 5 rfl rfl)
theorem dX10_steer_194 : decode cX10_steer 194 = .ok (.iastore, 1) := dk_79 (dk_at dksX10_steer_8 6 rfl rfl)
theorem dX10_steer_195 : decode cX10_steer 195 = .ok (.aload_n 0, 1) := dk_42 (dk_at dksX10_steer_8 7 rfl rfl)
theorem dX10_steer_196 : decode cX10_steer 196 = .ok (.getfield 59, 3) := dk_180 0 59 (dk_at dksX10_steer_8 8 rfl rfl)
theorem dX10_steer_199 : decode cX10_steer 199 = .ok (.bipush 32, 2) := dk_16 32 (dk_at dksX10_steer_8 11 rfl rfl)
theorem dX10_steer_201 : decode cX10_steer 201 = .ok (.dup2, 1) := dk_92 (dk_at dksX10_steer_8 13 rfl rfl)
theorem dX10_steer_202 : decode cX10_steer 202 = .ok (.iaload, 1) := dk_46 (dk_at dksX10_steer_8 14 rfl rfl)
theorem dX10_steer_203 : decode cX10_steer 203 = .ok (.iconst 1, 1) := dk_4 (dk_at dksX10_steer_8 15 rfl rfl)
theorem dX10_steer_204 : decode cX10_steer 204 = .ok (.iadd, 1) := dk_96 (dk_at dksX10_steer_8 16 rfl rfl)
theorem dX10_steer_205 : decode cX10_steer 205 = .ok (.iastore, 1) := dk_79 (dk_at dksX10_steer_8 17 rfl rfl)
theorem dX10_steer_206 : decode cX10_steer 206 = .ok (.return_, 1) := dk_177 (dk_at dksX10_steer_8 18 rfl rfl)
abbrev cX10_play : ByteArray := prog_22_method_51_code
def yX10_play : MethodName := ⟨RX10, "play", "()V"⟩
def dkwX10_play_13 : List UInt8 := [16, 12, 92, 46, 4, 96, 79, 42, 182, 1, 19, 177]
abbrev dktX10_play_13 : List UInt8 := dkwX10_play_13 ++ []
def dkwX10_play_12 : List UInt8 := [162, 0, 4, 177, 42, 180, 0, 59, 16, 30, 3, 79, 42, 180, 0, 59, 16, 8, 3, 79, 42, 180, 0, 59]
abbrev dktX10_play_12 : List UInt8 := dkwX10_play_12 ++ dktX10_play_13
def dkwX10_play_11 : List UInt8 := [96, 79, 42, 180, 0, 59, 16, 14, 92, 46, 4, 96, 79, 42, 180, 0, 59, 16, 30, 46, 16, 64]
abbrev dktX10_play_11 : List UInt8 := dkwX10_play_11 ++ dktX10_play_12
def dkwX10_play_10 : List UInt8 := [17, 0, 128, 112, 96, 28, 153, 0, 7, 3, 167, 0, 4, 4, 79, 42, 180, 0, 59, 16, 6, 92, 46, 4]
abbrev dktX10_play_10 : List UInt8 := dkwX10_play_10 ++ dktX10_play_11
def dkwX10_play_9 : List UInt8 := [16, 6, 46, 17, 0, 128, 112, 96, 29, 79, 42, 180, 0, 59, 17, 2, 25, 42, 180, 0, 59, 16, 6, 46]
abbrev dktX10_play_9 : List UInt8 := dkwX10_play_9 ++ dktX10_play_10
def dkwX10_play_8 : List UInt8 := [167, 0, 12, 42, 180, 0, 59, 16, 30, 46, 4, 96, 79, 42, 180, 0, 59, 17, 1, 153, 42, 180, 0, 59]
abbrev dktX10_play_8 : List UInt8 := dkwX10_play_8 ++ dktX10_play_9
def dkwX10_play_7 : List UInt8 := [28, 153, 0, 7, 3, 167, 0, 4, 4, 96, 79, 42, 180, 0, 59, 16, 30, 28, 153, 0, 7, 3]
abbrev dktX10_play_7 : List UInt8 := dkwX10_play_7 ++ dktX10_play_8
def dkwX10_play_6 : List UInt8 := [153, 0, 13, 29, 21, 4, 159, 0, 7, 4, 167, 0, 4, 3, 96, 79, 42, 180, 0, 59, 16, 7, 92, 46]
abbrev dktX10_play_6 : List UInt8 := dkwX10_play_6 ++ dktX10_play_7
def dkwX10_play_5 : List UInt8 := [42, 180, 0, 59, 16, 15, 46, 100, 182, 1, 75, 54, 4, 42, 180, 0, 59, 16, 13, 92, 46, 28]
abbrev dktX10_play_5 : List UInt8 := dkwX10_play_5 ++ dktX10_play_6
def dkwX10_play_4 : List UInt8 := [62, 42, 42, 180, 0, 59, 16, 16, 46, 42, 180, 0, 44, 3, 46, 104, 42, 180, 0, 59, 16, 14, 46, 96]
abbrev dktX10_play_4 : List UInt8 := dkwX10_play_4 ++ dktX10_play_5
def dkwX10_play_3 : List UInt8 := [180, 0, 59, 16, 14, 46, 42, 180, 0, 44, 3, 46, 112, 96, 182, 1, 75, 167, 0, 7, 42, 182, 1, 78]
abbrev dktX10_play_3 : List UInt8 := dkwX10_play_3 ++ dktX10_play_4
def dkwX10_play_2 : List UInt8 := [153, 0, 42, 42, 42, 180, 0, 59, 17, 0, 153, 27, 96, 46, 42, 180, 0, 44, 3, 46, 104, 42]
abbrev dktX10_play_2 : List UInt8 := dkwX10_play_2 ++ dktX10_play_3
def dkwX10_play_1 : List UInt8 := [180, 0, 59, 17, 0, 217, 27, 96, 46, 42, 182, 1, 62, 160, 0, 7, 4, 167, 0, 4, 3, 61, 28]
abbrev dktX10_play_1 : List UInt8 := dkwX10_play_1 ++ dktX10_play_2
def dkwX10_play_0 : List UInt8 := [42, 182, 1, 62, 16, 64, 112, 60, 42, 180, 0, 59, 17, 0, 153, 27, 96, 46, 2, 159, 0, 24, 42]
abbrev dktX10_play_0 : List UInt8 := dkwX10_play_0 ++ dktX10_play_1
theorem dksX10_play_0 : cX10_play.data.toList.drop 0 = dktX10_play_0 := by decide +kernel
theorem dksX10_play_1 : cX10_play.data.toList.drop 23 = dktX10_play_1 := dk_seg dksX10_play_0 23 rfl rfl
theorem dksX10_play_2 : cX10_play.data.toList.drop 46 = dktX10_play_2 := dk_seg dksX10_play_1 23 rfl rfl
theorem dksX10_play_3 : cX10_play.data.toList.drop 68 = dktX10_play_3 := dk_seg dksX10_play_2 22 rfl rfl
theorem dksX10_play_4 : cX10_play.data.toList.drop 92 = dktX10_play_4 := dk_seg dksX10_play_3 24 rfl rfl
theorem dksX10_play_5 : cX10_play.data.toList.drop 116 = dktX10_play_5 := dk_seg dksX10_play_4 24 rfl rfl
theorem dksX10_play_6 : cX10_play.data.toList.drop 138 = dktX10_play_6 := dk_seg dksX10_play_5 22 rfl rfl
theorem dksX10_play_7 : cX10_play.data.toList.drop 162 = dktX10_play_7 := dk_seg dksX10_play_6 24 rfl rfl
theorem dksX10_play_8 : cX10_play.data.toList.drop 184 = dktX10_play_8 := dk_seg dksX10_play_7 22 rfl rfl
theorem dksX10_play_9 : cX10_play.data.toList.drop 208 = dktX10_play_9 := dk_seg dksX10_play_8 24 rfl rfl
theorem dksX10_play_10 : cX10_play.data.toList.drop 232 = dktX10_play_10 := dk_seg dksX10_play_9 24 rfl rfl
theorem dksX10_play_11 : cX10_play.data.toList.drop 256 = dktX10_play_11 := dk_seg dksX10_play_10 24 rfl rfl
theorem dksX10_play_12 : cX10_play.data.toList.drop 278 = dktX10_play_12 := dk_seg dksX10_play_11 22 rfl rfl
theorem dksX10_play_13 : cX10_play.data.toList.drop 302 = dktX10_play_13 := dk_seg dksX10_play_12 24 rfl rfl
theorem dX10_play_0 : decode cX10_play 0 = .ok (.aload_n 0, 1) := dk_42 (dk_at dksX10_play_0 0 rfl rfl)
theorem dX10_play_1 : decode cX10_play 1 = .ok (.invokevirtual 318, 3) := dk_182 1 62 (dk_at dksX10_play_0 1 rfl rfl)
theorem dX10_play_4 : decode cX10_play 4 = .ok (.bipush 64, 2) := dk_16 64 (dk_at dksX10_play_0 4 rfl rfl)
theorem dX10_play_6 : decode cX10_play 6 = .ok (.irem, 1) := dk_112 (dk_at dksX10_play_0 6 rfl rfl)
theorem dX10_play_7 : decode cX10_play 7 = .ok (.istore_n 1, 1) := dk_60 (dk_at dksX10_play_0 7 rfl rfl)
theorem dX10_play_8 : decode cX10_play 8 = .ok (.aload_n 0, 1) := dk_42 (dk_at dksX10_play_0 8 rfl rfl)
theorem dX10_play_9 : decode cX10_play 9 = .ok (.getfield 59, 3) := dk_180 0 59 (dk_at dksX10_play_0 9 rfl rfl)
theorem dX10_play_12 : decode cX10_play 12 = .ok (.sipush 153, 3) := dk_17 0 153 (dk_at dksX10_play_0 12 rfl rfl)
theorem dX10_play_15 : decode cX10_play 15 = .ok (.iload_n 1, 1) := dk_27 (dk_at dksX10_play_0 15 rfl rfl)
theorem dX10_play_16 : decode cX10_play 16 = .ok (.iadd, 1) := dk_96 (dk_at dksX10_play_0 16 rfl rfl)
theorem dX10_play_17 : decode cX10_play 17 = .ok (.iaload, 1) := dk_46 (dk_at dksX10_play_0 17 rfl rfl)
theorem dX10_play_18 : decode cX10_play 18 = .ok (.iconst (-1), 1) := dk_2 (dk_at dksX10_play_0 18 rfl rfl)
theorem dX10_play_19 : decode cX10_play 19 = .ok (.if_icmp .eq 24, 3) := dk_159 0 24 (dk_at dksX10_play_0 19 rfl rfl)
theorem dX10_play_22 : decode cX10_play 22 = .ok (.aload_n 0, 1) := dk_42 (dk_at dksX10_play_0 22 rfl rfl)
theorem dX10_play_23 : decode cX10_play 23 = .ok (.getfield 59, 3) := dk_180 0 59 (dk_at dksX10_play_1 0 rfl rfl)
theorem dX10_play_26 : decode cX10_play 26 = .ok (.sipush 217, 3) := dk_17 0 217 (dk_at dksX10_play_1 3 rfl rfl)
theorem dX10_play_29 : decode cX10_play 29 = .ok (.iload_n 1, 1) := dk_27 (dk_at dksX10_play_1 6 rfl rfl)
theorem dX10_play_30 : decode cX10_play 30 = .ok (.iadd, 1) := dk_96 (dk_at dksX10_play_1 7 rfl rfl)
theorem dX10_play_31 : decode cX10_play 31 = .ok (.iaload, 1) := dk_46 (dk_at dksX10_play_1 8 rfl rfl)
theorem dX10_play_32 : decode cX10_play 32 = .ok (.aload_n 0, 1) := dk_42 (dk_at dksX10_play_1 9 rfl rfl)
theorem dX10_play_33 : decode cX10_play 33 = .ok (.invokevirtual 318, 3) := dk_182 1 62 (dk_at dksX10_play_1 10 rfl rfl)
theorem dX10_play_36 : decode cX10_play 36 = .ok (.if_icmp .ne 7, 3) := dk_160 0 7 (dk_at dksX10_play_1 13 rfl rfl)
theorem dX10_play_39 : decode cX10_play 39 = .ok (.iconst 1, 1) := dk_4 (dk_at dksX10_play_1 16 rfl rfl)
theorem dX10_play_40 : decode cX10_play 40 = .ok (.goto 4, 3) := dk_167 0 4 (dk_at dksX10_play_1 17 rfl rfl)
theorem dX10_play_43 : decode cX10_play 43 = .ok (.iconst 0, 1) := dk_3 (dk_at dksX10_play_1 20 rfl rfl)
theorem dX10_play_44 : decode cX10_play 44 = .ok (.istore_n 2, 1) := dk_61 (dk_at dksX10_play_1 21 rfl rfl)
theorem dX10_play_45 : decode cX10_play 45 = .ok (.iload_n 2, 1) := dk_28 (dk_at dksX10_play_1 22 rfl rfl)
theorem dX10_play_46 : decode cX10_play 46 = .ok (.ifCond .eq 42, 3) := dk_153 0 42 (dk_at dksX10_play_2 0 rfl rfl)
theorem dX10_play_49 : decode cX10_play 49 = .ok (.aload_n 0, 1) := dk_42 (dk_at dksX10_play_2 3 rfl rfl)
theorem dX10_play_50 : decode cX10_play 50 = .ok (.aload_n 0, 1) := dk_42 (dk_at dksX10_play_2 4 rfl rfl)
theorem dX10_play_51 : decode cX10_play 51 = .ok (.getfield 59, 3) := dk_180 0 59 (dk_at dksX10_play_2 5 rfl rfl)
theorem dX10_play_54 : decode cX10_play 54 = .ok (.sipush 153, 3) := dk_17 0 153 (dk_at dksX10_play_2 8 rfl rfl)
theorem dX10_play_57 : decode cX10_play 57 = .ok (.iload_n 1, 1) := dk_27 (dk_at dksX10_play_2 11 rfl rfl)
theorem dX10_play_58 : decode cX10_play 58 = .ok (.iadd, 1) := dk_96 (dk_at dksX10_play_2 12 rfl rfl)
theorem dX10_play_59 : decode cX10_play 59 = .ok (.iaload, 1) := dk_46 (dk_at dksX10_play_2 13 rfl rfl)
theorem dX10_play_60 : decode cX10_play 60 = .ok (.aload_n 0, 1) := dk_42 (dk_at dksX10_play_2 14 rfl rfl)
theorem dX10_play_61 : decode cX10_play 61 = .ok (.getfield 44, 3) := dk_180 0 44 (dk_at dksX10_play_2 15 rfl rfl)
theorem dX10_play_64 : decode cX10_play 64 = .ok (.iconst 0, 1) := dk_3 (dk_at dksX10_play_2 18 rfl rfl)
theorem dX10_play_65 : decode cX10_play 65 = .ok (.iaload, 1) := dk_46 (dk_at dksX10_play_2 19 rfl rfl)
theorem dX10_play_66 : decode cX10_play 66 = .ok (.imul, 1) := dk_104 (dk_at dksX10_play_2 20 rfl rfl)
theorem dX10_play_67 : decode cX10_play 67 = .ok (.aload_n 0, 1) := dk_42 (dk_at dksX10_play_2 21 rfl rfl)
theorem dX10_play_68 : decode cX10_play 68 = .ok (.getfield 59, 3) := dk_180 0 59 (dk_at dksX10_play_3 0 rfl rfl)
theorem dX10_play_71 : decode cX10_play 71 = .ok (.bipush 14, 2) := dk_16 14 (dk_at dksX10_play_3 3 rfl rfl)
theorem dX10_play_73 : decode cX10_play 73 = .ok (.iaload, 1) := dk_46 (dk_at dksX10_play_3 5 rfl rfl)
theorem dX10_play_74 : decode cX10_play 74 = .ok (.aload_n 0, 1) := dk_42 (dk_at dksX10_play_3 6 rfl rfl)
theorem dX10_play_75 : decode cX10_play 75 = .ok (.getfield 44, 3) := dk_180 0 44 (dk_at dksX10_play_3 7 rfl rfl)
theorem dX10_play_78 : decode cX10_play 78 = .ok (.iconst 0, 1) := dk_3 (dk_at dksX10_play_3 10 rfl rfl)
theorem dX10_play_79 : decode cX10_play 79 = .ok (.iaload, 1) := dk_46 (dk_at dksX10_play_3 11 rfl rfl)
theorem dX10_play_80 : decode cX10_play 80 = .ok (.irem, 1) := dk_112 (dk_at dksX10_play_3 12 rfl rfl)
theorem dX10_play_81 : decode cX10_play 81 = .ok (.iadd, 1) := dk_96 (dk_at dksX10_play_3 13 rfl rfl)
theorem dX10_play_82 : decode cX10_play 82 = .ok (.invokevirtual 331, 3) := dk_182 1 75 (dk_at dksX10_play_3 14 rfl rfl)
theorem dX10_play_85 : decode cX10_play 85 = .ok (.goto 7, 3) := dk_167 0 7 (dk_at dksX10_play_3 17 rfl rfl)
theorem dX10_play_88 : decode cX10_play 88 = .ok (.aload_n 0, 1) := dk_42 (dk_at dksX10_play_3 20 rfl rfl)
theorem dX10_play_89 : decode cX10_play 89 = .ok (.invokevirtual 334, 3) := dk_182 1 78 (dk_at dksX10_play_3 21 rfl rfl)
theorem dX10_play_92 : decode cX10_play 92 = .ok (.istore_n 3, 1) := dk_62 (dk_at dksX10_play_4 0 rfl rfl)
theorem dX10_play_93 : decode cX10_play 93 = .ok (.aload_n 0, 1) := dk_42 (dk_at dksX10_play_4 1 rfl rfl)
theorem dX10_play_94 : decode cX10_play 94 = .ok (.aload_n 0, 1) := dk_42 (dk_at dksX10_play_4 2 rfl rfl)
theorem dX10_play_95 : decode cX10_play 95 = .ok (.getfield 59, 3) := dk_180 0 59 (dk_at dksX10_play_4 3 rfl rfl)
theorem dX10_play_98 : decode cX10_play 98 = .ok (.bipush 16, 2) := dk_16 16 (dk_at dksX10_play_4 6 rfl rfl)
theorem dX10_play_100 : decode cX10_play 100 = .ok (.iaload, 1) := dk_46 (dk_at dksX10_play_4 8 rfl rfl)
theorem dX10_play_101 : decode cX10_play 101 = .ok (.aload_n 0, 1) := dk_42 (dk_at dksX10_play_4 9 rfl rfl)
theorem dX10_play_102 : decode cX10_play 102 = .ok (.getfield 44, 3) := dk_180 0 44 (dk_at dksX10_play_4 10 rfl rfl)
theorem dX10_play_105 : decode cX10_play 105 = .ok (.iconst 0, 1) := dk_3 (dk_at dksX10_play_4 13 rfl rfl)
theorem dX10_play_106 : decode cX10_play 106 = .ok (.iaload, 1) := dk_46 (dk_at dksX10_play_4 14 rfl rfl)
theorem dX10_play_107 : decode cX10_play 107 = .ok (.imul, 1) := dk_104 (dk_at dksX10_play_4 15 rfl rfl)
theorem dX10_play_108 : decode cX10_play 108 = .ok (.aload_n 0, 1) := dk_42 (dk_at dksX10_play_4 16 rfl rfl)
theorem dX10_play_109 : decode cX10_play 109 = .ok (.getfield 59, 3) := dk_180 0 59 (dk_at dksX10_play_4 17 rfl rfl)
theorem dX10_play_112 : decode cX10_play 112 = .ok (.bipush 14, 2) := dk_16 14 (dk_at dksX10_play_4 20 rfl rfl)
theorem dX10_play_114 : decode cX10_play 114 = .ok (.iaload, 1) := dk_46 (dk_at dksX10_play_4 22 rfl rfl)
theorem dX10_play_115 : decode cX10_play 115 = .ok (.iadd, 1) := dk_96 (dk_at dksX10_play_4 23 rfl rfl)
theorem dX10_play_116 : decode cX10_play 116 = .ok (.aload_n 0, 1) := dk_42 (dk_at dksX10_play_5 0 rfl rfl)
theorem dX10_play_117 : decode cX10_play 117 = .ok (.getfield 59, 3) := dk_180 0 59 (dk_at dksX10_play_5 1 rfl rfl)
theorem dX10_play_120 : decode cX10_play 120 = .ok (.bipush 15, 2) := dk_16 15 (dk_at dksX10_play_5 4 rfl rfl)
theorem dX10_play_122 : decode cX10_play 122 = .ok (.iaload, 1) := dk_46 (dk_at dksX10_play_5 6 rfl rfl)
theorem dX10_play_123 : decode cX10_play 123 = .ok (.isub, 1) := dk_100 (dk_at dksX10_play_5 7 rfl rfl)
theorem dX10_play_124 : decode cX10_play 124 = .ok (.invokevirtual 331, 3) := dk_182 1 75 (dk_at dksX10_play_5 8 rfl rfl)
theorem dX10_play_127 : decode cX10_play 127 = .ok (.istore 4, 2) := dk_54 4 (dk_at dksX10_play_5 11 rfl rfl)
theorem dX10_play_129 : decode cX10_play 129 = .ok (.aload_n 0, 1) := dk_42 (dk_at dksX10_play_5 13 rfl rfl)
theorem dX10_play_130 : decode cX10_play 130 = .ok (.getfield 59, 3) := dk_180 0 59 (dk_at dksX10_play_5 14 rfl rfl)
theorem dX10_play_133 : decode cX10_play 133 = .ok (.bipush 13, 2) := dk_16 13 (dk_at dksX10_play_5 17 rfl rfl)
theorem dX10_play_135 : decode cX10_play 135 = .ok (.dup2, 1) := dk_92 (dk_at dksX10_play_5 19 rfl rfl)
theorem dX10_play_136 : decode cX10_play 136 = .ok (.iaload, 1) := dk_46 (dk_at dksX10_play_5 20 rfl rfl)
theorem dX10_play_137 : decode cX10_play 137 = .ok (.iload_n 2, 1) := dk_28 (dk_at dksX10_play_5 21 rfl rfl)
theorem dX10_play_138 : decode cX10_play 138 = .ok (.ifCond .eq 13, 3) := dk_153 0 13 (dk_at dksX10_play_6 0 rfl rfl)
theorem dX10_play_141 : decode cX10_play 141 = .ok (.iload_n 3, 1) := dk_29 (dk_at dksX10_play_6 3 rfl rfl)
theorem dX10_play_142 : decode cX10_play 142 = .ok (.iload 4, 2) := dk_21 4 (dk_at dksX10_play_6 4 rfl rfl)
theorem dX10_play_144 : decode cX10_play 144 = .ok (.if_icmp .eq 7, 3) := dk_159 0 7 (dk_at dksX10_play_6 6 rfl rfl)
theorem dX10_play_147 : decode cX10_play 147 = .ok (.iconst 1, 1) := dk_4 (dk_at dksX10_play_6 9 rfl rfl)
theorem dX10_play_148 : decode cX10_play 148 = .ok (.goto 4, 3) := dk_167 0 4 (dk_at dksX10_play_6 10 rfl rfl)
theorem dX10_play_151 : decode cX10_play 151 = .ok (.iconst 0, 1) := dk_3 (dk_at dksX10_play_6 13 rfl rfl)
theorem dX10_play_152 : decode cX10_play 152 = .ok (.iadd, 1) := dk_96 (dk_at dksX10_play_6 14 rfl rfl)
theorem dX10_play_153 : decode cX10_play 153 = .ok (.iastore, 1) := dk_79 (dk_at dksX10_play_6 15 rfl rfl)
theorem dX10_play_154 : decode cX10_play 154 = .ok (.aload_n 0, 1) := dk_42 (dk_at dksX10_play_6 16 rfl rfl)
theorem dX10_play_155 : decode cX10_play 155 = .ok (.getfield 59, 3) := dk_180 0 59 (dk_at dksX10_play_6 17 rfl rfl)
theorem dX10_play_158 : decode cX10_play 158 = .ok (.bipush 7, 2) := dk_16 7 (dk_at dksX10_play_6 20 rfl rfl)
theorem dX10_play_160 : decode cX10_play 160 = .ok (.dup2, 1) := dk_92 (dk_at dksX10_play_6 22 rfl rfl)
theorem dX10_play_161 : decode cX10_play 161 = .ok (.iaload, 1) := dk_46 (dk_at dksX10_play_6 23 rfl rfl)
theorem dX10_play_162 : decode cX10_play 162 = .ok (.iload_n 2, 1) := dk_28 (dk_at dksX10_play_7 0 rfl rfl)
theorem dX10_play_163 : decode cX10_play 163 = .ok (.ifCond .eq 7, 3) := dk_153 0 7 (dk_at dksX10_play_7 1 rfl rfl)
theorem dX10_play_166 : decode cX10_play 166 = .ok (.iconst 0, 1) := dk_3 (dk_at dksX10_play_7 4 rfl rfl)
theorem dX10_play_167 : decode cX10_play 167 = .ok (.goto 4, 3) := dk_167 0 4 (dk_at dksX10_play_7 5 rfl rfl)
theorem dX10_play_170 : decode cX10_play 170 = .ok (.iconst 1, 1) := dk_4 (dk_at dksX10_play_7 8 rfl rfl)
theorem dX10_play_171 : decode cX10_play 171 = .ok (.iadd, 1) := dk_96 (dk_at dksX10_play_7 9 rfl rfl)
theorem dX10_play_172 : decode cX10_play 172 = .ok (.iastore, 1) := dk_79 (dk_at dksX10_play_7 10 rfl rfl)
theorem dX10_play_173 : decode cX10_play 173 = .ok (.aload_n 0, 1) := dk_42 (dk_at dksX10_play_7 11 rfl rfl)
theorem dX10_play_174 : decode cX10_play 174 = .ok (.getfield 59, 3) := dk_180 0 59 (dk_at dksX10_play_7 12 rfl rfl)
theorem dX10_play_177 : decode cX10_play 177 = .ok (.bipush 30, 2) := dk_16 30 (dk_at dksX10_play_7 15 rfl rfl)
theorem dX10_play_179 : decode cX10_play 179 = .ok (.iload_n 2, 1) := dk_28 (dk_at dksX10_play_7 17 rfl rfl)
theorem dX10_play_180 : decode cX10_play 180 = .ok (.ifCond .eq 7, 3) := dk_153 0 7 (dk_at dksX10_play_7 18 rfl rfl)
theorem dX10_play_183 : decode cX10_play 183 = .ok (.iconst 0, 1) := dk_3 (dk_at dksX10_play_7 21 rfl rfl)
theorem dX10_play_184 : decode cX10_play 184 = .ok (.goto 12, 3) := dk_167 0 12 (dk_at dksX10_play_8 0 rfl rfl)
theorem dX10_play_187 : decode cX10_play 187 = .ok (.aload_n 0, 1) := dk_42 (dk_at dksX10_play_8 3 rfl rfl)
theorem dX10_play_188 : decode cX10_play 188 = .ok (.getfield 59, 3) := dk_180 0 59 (dk_at dksX10_play_8 4 rfl rfl)
theorem dX10_play_191 : decode cX10_play 191 = .ok (.bipush 30, 2) := dk_16 30 (dk_at dksX10_play_8 7 rfl rfl)
theorem dX10_play_193 : decode cX10_play 193 = .ok (.iaload, 1) := dk_46 (dk_at dksX10_play_8 9 rfl rfl)
theorem dX10_play_194 : decode cX10_play 194 = .ok (.iconst 1, 1) := dk_4 (dk_at dksX10_play_8 10 rfl rfl)
theorem dX10_play_195 : decode cX10_play 195 = .ok (.iadd, 1) := dk_96 (dk_at dksX10_play_8 11 rfl rfl)
theorem dX10_play_196 : decode cX10_play 196 = .ok (.iastore, 1) := dk_79 (dk_at dksX10_play_8 12 rfl rfl)
theorem dX10_play_197 : decode cX10_play 197 = .ok (.aload_n 0, 1) := dk_42 (dk_at dksX10_play_8 13 rfl rfl)
theorem dX10_play_198 : decode cX10_play 198 = .ok (.getfield 59, 3) := dk_180 0 59 (dk_at dksX10_play_8 14 rfl rfl)
theorem dX10_play_201 : decode cX10_play 201 = .ok (.sipush 409, 3) := dk_17 1 153 (dk_at dksX10_play_8 17 rfl rfl)
theorem dX10_play_204 : decode cX10_play 204 = .ok (.aload_n 0, 1) := dk_42 (dk_at dksX10_play_8 20 rfl rfl)
theorem dX10_play_205 : decode cX10_play 205 = .ok (.getfield 59, 3) := dk_180 0 59 (dk_at dksX10_play_8 21 rfl rfl)
theorem dX10_play_208 : decode cX10_play 208 = .ok (.bipush 6, 2) := dk_16 6 (dk_at dksX10_play_9 0 rfl rfl)
theorem dX10_play_210 : decode cX10_play 210 = .ok (.iaload, 1) := dk_46 (dk_at dksX10_play_9 2 rfl rfl)
theorem dX10_play_211 : decode cX10_play 211 = .ok (.sipush 128, 3) := dk_17 0 128 (dk_at dksX10_play_9 3 rfl rfl)
theorem dX10_play_214 : decode cX10_play 214 = .ok (.irem, 1) := dk_112 (dk_at dksX10_play_9 6 rfl rfl)
theorem dX10_play_215 : decode cX10_play 215 = .ok (.iadd, 1) := dk_96 (dk_at dksX10_play_9 7 rfl rfl)
theorem dX10_play_216 : decode cX10_play 216 = .ok (.iload_n 3, 1) := dk_29 (dk_at dksX10_play_9 8 rfl rfl)
theorem dX10_play_217 : decode cX10_play 217 = .ok (.iastore, 1) := dk_79 (dk_at dksX10_play_9 9 rfl rfl)
theorem dX10_play_218 : decode cX10_play 218 = .ok (.aload_n 0, 1) := dk_42 (dk_at dksX10_play_9 10 rfl rfl)
theorem dX10_play_219 : decode cX10_play 219 = .ok (.getfield 59, 3) := dk_180 0 59 (dk_at dksX10_play_9 11 rfl rfl)
theorem dX10_play_222 : decode cX10_play 222 = .ok (.sipush 537, 3) := dk_17 2 25 (dk_at dksX10_play_9 14 rfl rfl)
theorem dX10_play_225 : decode cX10_play 225 = .ok (.aload_n 0, 1) := dk_42 (dk_at dksX10_play_9 17 rfl rfl)
theorem dX10_play_226 : decode cX10_play 226 = .ok (.getfield 59, 3) := dk_180 0 59 (dk_at dksX10_play_9 18 rfl rfl)
theorem dX10_play_229 : decode cX10_play 229 = .ok (.bipush 6, 2) := dk_16 6 (dk_at dksX10_play_9 21 rfl rfl)
theorem dX10_play_231 : decode cX10_play 231 = .ok (.iaload, 1) := dk_46 (dk_at dksX10_play_9 23 rfl rfl)
theorem dX10_play_232 : decode cX10_play 232 = .ok (.sipush 128, 3) := dk_17 0 128 (dk_at dksX10_play_10 0 rfl rfl)
theorem dX10_play_235 : decode cX10_play 235 = .ok (.irem, 1) := dk_112 (dk_at dksX10_play_10 3 rfl rfl)
theorem dX10_play_236 : decode cX10_play 236 = .ok (.iadd, 1) := dk_96 (dk_at dksX10_play_10 4 rfl rfl)
theorem dX10_play_237 : decode cX10_play 237 = .ok (.iload_n 2, 1) := dk_28 (dk_at dksX10_play_10 5 rfl rfl)
theorem dX10_play_238 : decode cX10_play 238 = .ok (.ifCond .eq 7, 3) := dk_153 0 7 (dk_at dksX10_play_10 6 rfl rfl)
theorem dX10_play_241 : decode cX10_play 241 = .ok (.iconst 0, 1) := dk_3 (dk_at dksX10_play_10 9 rfl rfl)
theorem dX10_play_242 : decode cX10_play 242 = .ok (.goto 4, 3) := dk_167 0 4 (dk_at dksX10_play_10 10 rfl rfl)
theorem dX10_play_245 : decode cX10_play 245 = .ok (.iconst 1, 1) := dk_4 (dk_at dksX10_play_10 13 rfl rfl)
theorem dX10_play_246 : decode cX10_play 246 = .ok (.iastore, 1) := dk_79 (dk_at dksX10_play_10 14 rfl rfl)
theorem dX10_play_247 : decode cX10_play 247 = .ok (.aload_n 0, 1) := dk_42 (dk_at dksX10_play_10 15 rfl rfl)
theorem dX10_play_248 : decode cX10_play 248 = .ok (.getfield 59, 3) := dk_180 0 59 (dk_at dksX10_play_10 16 rfl rfl)
theorem dX10_play_251 : decode cX10_play 251 = .ok (.bipush 6, 2) := dk_16 6 (dk_at dksX10_play_10 19 rfl rfl)
theorem dX10_play_253 : decode cX10_play 253 = .ok (.dup2, 1) := dk_92 (dk_at dksX10_play_10 21 rfl rfl)
theorem dX10_play_254 : decode cX10_play 254 = .ok (.iaload, 1) := dk_46 (dk_at dksX10_play_10 22 rfl rfl)
theorem dX10_play_255 : decode cX10_play 255 = .ok (.iconst 1, 1) := dk_4 (dk_at dksX10_play_10 23 rfl rfl)
theorem dX10_play_256 : decode cX10_play 256 = .ok (.iadd, 1) := dk_96 (dk_at dksX10_play_11 0 rfl rfl)
theorem dX10_play_257 : decode cX10_play 257 = .ok (.iastore, 1) := dk_79 (dk_at dksX10_play_11 1 rfl rfl)
theorem dX10_play_258 : decode cX10_play 258 = .ok (.aload_n 0, 1) := dk_42 (dk_at dksX10_play_11 2 rfl rfl)
theorem dX10_play_259 : decode cX10_play 259 = .ok (.getfield 59, 3) := dk_180 0 59 (dk_at dksX10_play_11 3 rfl rfl)
theorem dX10_play_262 : decode cX10_play 262 = .ok (.bipush 14, 2) := dk_16 14 (dk_at dksX10_play_11 6 rfl rfl)
theorem dX10_play_264 : decode cX10_play 264 = .ok (.dup2, 1) := dk_92 (dk_at dksX10_play_11 8 rfl rfl)
theorem dX10_play_265 : decode cX10_play 265 = .ok (.iaload, 1) := dk_46 (dk_at dksX10_play_11 9 rfl rfl)
theorem dX10_play_266 : decode cX10_play 266 = .ok (.iconst 1, 1) := dk_4 (dk_at dksX10_play_11 10 rfl rfl)
theorem dX10_play_267 : decode cX10_play 267 = .ok (.iadd, 1) := dk_96 (dk_at dksX10_play_11 11 rfl rfl)
theorem dX10_play_268 : decode cX10_play 268 = .ok (.iastore, 1) := dk_79 (dk_at dksX10_play_11 12 rfl rfl)
theorem dX10_play_269 : decode cX10_play 269 = .ok (.aload_n 0, 1) := dk_42 (dk_at dksX10_play_11 13 rfl rfl)
theorem dX10_play_270 : decode cX10_play 270 = .ok (.getfield 59, 3) := dk_180 0 59 (dk_at dksX10_play_11 14 rfl rfl)
theorem dX10_play_273 : decode cX10_play 273 = .ok (.bipush 30, 2) := dk_16 30 (dk_at dksX10_play_11 17 rfl rfl)
theorem dX10_play_275 : decode cX10_play 275 = .ok (.iaload, 1) := dk_46 (dk_at dksX10_play_11 19 rfl rfl)
theorem dX10_play_276 : decode cX10_play 276 = .ok (.bipush 64, 2) := dk_16 64 (dk_at dksX10_play_11 20 rfl rfl)
theorem dX10_play_278 : decode cX10_play 278 = .ok (.if_icmp .ge 4, 3) := dk_162 0 4 (dk_at dksX10_play_12 0 rfl rfl)
theorem dX10_play_281 : decode cX10_play 281 = .ok (.return_, 1) := dk_177 (dk_at dksX10_play_12 3 rfl rfl)
theorem dX10_play_282 : decode cX10_play 282 = .ok (.aload_n 0, 1) := dk_42 (dk_at dksX10_play_12 4 rfl rfl)
theorem dX10_play_283 : decode cX10_play 283 = .ok (.getfield 59, 3) := dk_180 0 59 (dk_at dksX10_play_12 5 rfl rfl)
theorem dX10_play_286 : decode cX10_play 286 = .ok (.bipush 30, 2) := dk_16 30 (dk_at dksX10_play_12 8 rfl rfl)
theorem dX10_play_288 : decode cX10_play 288 = .ok (.iconst 0, 1) := dk_3 (dk_at dksX10_play_12 10 rfl rfl)
theorem dX10_play_289 : decode cX10_play 289 = .ok (.iastore, 1) := dk_79 (dk_at dksX10_play_12 11 rfl rfl)
theorem dX10_play_290 : decode cX10_play 290 = .ok (.aload_n 0, 1) := dk_42 (dk_at dksX10_play_12 12 rfl rfl)
theorem dX10_play_291 : decode cX10_play 291 = .ok (.getfield 59, 3) := dk_180 0 59 (dk_at dksX10_play_12 13 rfl rfl)
theorem dX10_play_294 : decode cX10_play 294 = .ok (.bipush 8, 2) := dk_16 8 (dk_at dksX10_play_12 16 rfl rfl)
theorem dX10_play_296 : decode cX10_play 296 = .ok (.iconst 0, 1) := dk_3 (dk_at dksX10_play_12 18 rfl rfl)
theorem dX10_play_297 : decode cX10_play 297 = .ok (.iastore, 1) := dk_79 (dk_at dksX10_play_12 19 rfl rfl)
theorem dX10_play_298 : decode cX10_play 298 = .ok (.aload_n 0, 1) := dk_42 (dk_at dksX10_play_12 20 rfl rfl)
theorem dX10_play_299 : decode cX10_play 299 = .ok (.getfield 59, 3) := dk_180 0 59 (dk_at dksX10_play_12 21 rfl rfl)
theorem dX10_play_302 : decode cX10_play 302 = .ok (.bipush 12, 2) := dk_16 12 (dk_at dksX10_play_13 0 rfl rfl)
theorem dX10_play_304 : decode cX10_play 304 = .ok (.dup2, 1) := dk_92 (dk_at dksX10_play_13 2 rfl rfl)
theorem dX10_play_305 : decode cX10_play 305 = .ok (.iaload, 1) := dk_46 (dk_at dksX10_play_13 3 rfl rfl)
theorem dX10_play_306 : decode cX10_play 306 = .ok (.iconst 1, 1) := dk_4 (dk_at dksX10_play_13 4 rfl rfl)
theorem dX10_play_307 : decode cX10_play 307 = .ok (.iadd, 1) := dk_96 (dk_at dksX10_play_13 5 rfl rfl)
theorem dX10_play_308 : decode cX10_play 308 = .ok (.iastore, 1) := dk_79 (dk_at dksX10_play_13 6 rfl rfl)
theorem dX10_play_309 : decode cX10_play 309 = .ok (.aload_n 0, 1) := dk_42 (dk_at dksX10_play_13 7 rfl rfl)
theorem dX10_play_310 : decode cX10_play 310 = .ok (.invokevirtual 275, 3) := dk_182 1 19 (dk_at dksX10_play_13 8 rfl rfl)
theorem dX10_play_313 : decode cX10_play 313 = .ok (.return_, 1) := dk_177 (dk_at dksX10_play_13 11 rfl rfl)
abbrev cX10_octetOf : ByteArray := prog_22_method_48_code
def yX10_octetOf : MethodName := ⟨RX10, "octetOf", "(I)I"⟩
def dkwX10_octetOf_0 : List UInt8 := [42, 180, 0, 48, 27, 42, 180, 0, 44, 16, 7, 46, 112, 46, 27, 96, 17, 0, 255, 126, 172]
abbrev dktX10_octetOf_0 : List UInt8 := dkwX10_octetOf_0 ++ []
theorem dksX10_octetOf_0 : cX10_octetOf.data.toList.drop 0 = dktX10_octetOf_0 := by decide +kernel
theorem dX10_octetOf_0 : decode cX10_octetOf 0 = .ok (.aload_n 0, 1) := dk_42 (dk_at dksX10_octetOf_0 0 rfl rfl)
theorem dX10_octetOf_1 : decode cX10_octetOf 1 = .ok (.getfield 48, 3) := dk_180 0 48 (dk_at dksX10_octetOf_0 1 rfl rfl)
theorem dX10_octetOf_4 : decode cX10_octetOf 4 = .ok (.iload_n 1, 1) := dk_27 (dk_at dksX10_octetOf_0 4 rfl rfl)
theorem dX10_octetOf_5 : decode cX10_octetOf 5 = .ok (.aload_n 0, 1) := dk_42 (dk_at dksX10_octetOf_0 5 rfl rfl)
theorem dX10_octetOf_6 : decode cX10_octetOf 6 = .ok (.getfield 44, 3) := dk_180 0 44 (dk_at dksX10_octetOf_0 6 rfl rfl)
theorem dX10_octetOf_9 : decode cX10_octetOf 9 = .ok (.bipush 7, 2) := dk_16 7 (dk_at dksX10_octetOf_0 9 rfl rfl)
theorem dX10_octetOf_11 : decode cX10_octetOf 11 = .ok (.iaload, 1) := dk_46 (dk_at dksX10_octetOf_0 11 rfl rfl)
theorem dX10_octetOf_12 : decode cX10_octetOf 12 = .ok (.irem, 1) := dk_112 (dk_at dksX10_octetOf_0 12 rfl rfl)
theorem dX10_octetOf_13 : decode cX10_octetOf 13 = .ok (.iaload, 1) := dk_46 (dk_at dksX10_octetOf_0 13 rfl rfl)
theorem dX10_octetOf_14 : decode cX10_octetOf 14 = .ok (.iload_n 1, 1) := dk_27 (dk_at dksX10_octetOf_0 14 rfl rfl)
theorem dX10_octetOf_15 : decode cX10_octetOf 15 = .ok (.iadd, 1) := dk_96 (dk_at dksX10_octetOf_0 15 rfl rfl)
theorem dX10_octetOf_16 : decode cX10_octetOf 16 = .ok (.sipush 255, 3) := dk_17 0 255 (dk_at dksX10_octetOf_0 16 rfl rfl)
theorem dX10_octetOf_19 : decode cX10_octetOf 19 = .ok (.iand, 1) := dk_126 (dk_at dksX10_octetOf_0 19 rfl rfl)
theorem dX10_octetOf_20 : decode cX10_octetOf 20 = .ok (.ireturn, 1) := dk_172 (dk_at dksX10_octetOf_0 20 rfl rfl)
abbrev cX10_filler : ByteArray := prog_22_method_50_code
def yX10_filler : MethodName := ⟨RX10, "filler", "()I"⟩
def dkwX10_filler_1 : List UInt8 := [154, 0, 7, 4, 167, 0, 10, 42, 180, 0, 44, 16, 6, 46, 182, 1, 72, 172]
abbrev dktX10_filler_1 : List UInt8 := dkwX10_filler_1 ++ []
def dkwX10_filler_0 : List UInt8 := [42, 180, 0, 59, 16, 28, 46, 4, 160, 0, 6, 16, 126, 172, 42, 42, 180, 0, 59, 16, 28, 46]
abbrev dktX10_filler_0 : List UInt8 := dkwX10_filler_0 ++ dktX10_filler_1
theorem dksX10_filler_0 : cX10_filler.data.toList.drop 0 = dktX10_filler_0 := by decide +kernel
theorem dksX10_filler_1 : cX10_filler.data.toList.drop 22 = dktX10_filler_1 := dk_seg dksX10_filler_0 22 rfl rfl
theorem dX10_filler_0 : decode cX10_filler 0 = .ok (.aload_n 0, 1) := dk_42 (dk_at dksX10_filler_0 0 rfl rfl)
theorem dX10_filler_1 : decode cX10_filler 1 = .ok (.getfield 59, 3) := dk_180 0 59 (dk_at dksX10_filler_0 1 rfl rfl)
theorem dX10_filler_4 : decode cX10_filler 4 = .ok (.bipush 28, 2) := dk_16 28 (dk_at dksX10_filler_0 4 rfl rfl)
theorem dX10_filler_6 : decode cX10_filler 6 = .ok (.iaload, 1) := dk_46 (dk_at dksX10_filler_0 6 rfl rfl)
theorem dX10_filler_7 : decode cX10_filler 7 = .ok (.iconst 1, 1) := dk_4 (dk_at dksX10_filler_0 7 rfl rfl)
theorem dX10_filler_8 : decode cX10_filler 8 = .ok (.if_icmp .ne 6, 3) := dk_160 0 6 (dk_at dksX10_filler_0 8 rfl rfl)
theorem dX10_filler_11 : decode cX10_filler 11 = .ok (.bipush 126, 2) := dk_16 126 (dk_at dksX10_filler_0 11 rfl rfl)
theorem dX10_filler_13 : decode cX10_filler 13 = .ok (.ireturn, 1) := dk_172 (dk_at dksX10_filler_0 13 rfl rfl)
theorem dX10_filler_14 : decode cX10_filler 14 = .ok (.aload_n 0, 1) := dk_42 (dk_at dksX10_filler_0 14 rfl rfl)
theorem dX10_filler_15 : decode cX10_filler 15 = .ok (.aload_n 0, 1) := dk_42 (dk_at dksX10_filler_0 15 rfl rfl)
theorem dX10_filler_16 : decode cX10_filler 16 = .ok (.getfield 59, 3) := dk_180 0 59 (dk_at dksX10_filler_0 16 rfl rfl)
theorem dX10_filler_19 : decode cX10_filler 19 = .ok (.bipush 28, 2) := dk_16 28 (dk_at dksX10_filler_0 19 rfl rfl)
theorem dX10_filler_21 : decode cX10_filler 21 = .ok (.iaload, 1) := dk_46 (dk_at dksX10_filler_0 21 rfl rfl)
theorem dX10_filler_22 : decode cX10_filler 22 = .ok (.ifCond .ne 7, 3) := dk_154 0 7 (dk_at dksX10_filler_1 0 rfl rfl)
theorem dX10_filler_25 : decode cX10_filler 25 = .ok (.iconst 1, 1) := dk_4 (dk_at dksX10_filler_1 3 rfl rfl)
theorem dX10_filler_26 : decode cX10_filler 26 = .ok (.goto 10, 3) := dk_167 0 10 (dk_at dksX10_filler_1 4 rfl rfl)
theorem dX10_filler_29 : decode cX10_filler 29 = .ok (.aload_n 0, 1) := dk_42 (dk_at dksX10_filler_1 7 rfl rfl)
theorem dX10_filler_30 : decode cX10_filler 30 = .ok (.getfield 44, 3) := dk_180 0 44 (dk_at dksX10_filler_1 8 rfl rfl)
theorem dX10_filler_33 : decode cX10_filler 33 = .ok (.bipush 6, 2) := dk_16 6 (dk_at dksX10_filler_1 11 rfl rfl)
theorem dX10_filler_35 : decode cX10_filler 35 = .ok (.iaload, 1) := dk_46 (dk_at dksX10_filler_1 13 rfl rfl)
theorem dX10_filler_36 : decode cX10_filler 36 = .ok (.invokevirtual 328, 3) := dk_182 1 72 (dk_at dksX10_filler_1 14 rfl rfl)
theorem dX10_filler_39 : decode cX10_filler 39 = .ok (.ireturn, 1) := dk_172 (dk_at dksX10_filler_1 17 rfl rfl)
abbrev cX10_playedBack : ByteArray := prog_22_method_49_code
def yX10_playedBack : MethodName := ⟨RX10, "playedBack", "(I)I"⟩
def dkwX10_playedBack_1 : List UInt8 := [180, 0, 59, 16, 6, 46, 27, 100, 17, 0, 128, 112, 96, 46, 172]
abbrev dktX10_playedBack_1 : List UInt8 := dkwX10_playedBack_1 ++ []
def dkwX10_playedBack_0 : List UInt8 := [42, 180, 0, 59, 16, 6, 46, 27, 162, 0, 8, 16, 126, 167, 0, 25, 42, 180, 0, 59, 17, 1, 153, 42]
abbrev dktX10_playedBack_0 : List UInt8 := dkwX10_playedBack_0 ++ dktX10_playedBack_1
theorem dksX10_playedBack_0 : cX10_playedBack.data.toList.drop 0 = dktX10_playedBack_0 := by decide +kernel
theorem dksX10_playedBack_1 : cX10_playedBack.data.toList.drop 24 = dktX10_playedBack_1 := dk_seg dksX10_playedBack_0 24 rfl rfl
theorem dX10_playedBack_0 : decode cX10_playedBack 0 = .ok (.aload_n 0, 1) := dk_42 (dk_at dksX10_playedBack_0 0 rfl rfl)
theorem dX10_playedBack_1 : decode cX10_playedBack 1 = .ok (.getfield 59, 3) := dk_180 0 59 (dk_at dksX10_playedBack_0 1 rfl rfl)
theorem dX10_playedBack_4 : decode cX10_playedBack 4 = .ok (.bipush 6, 2) := dk_16 6 (dk_at dksX10_playedBack_0 4 rfl rfl)
theorem dX10_playedBack_6 : decode cX10_playedBack 6 = .ok (.iaload, 1) := dk_46 (dk_at dksX10_playedBack_0 6 rfl rfl)
theorem dX10_playedBack_7 : decode cX10_playedBack 7 = .ok (.iload_n 1, 1) := dk_27 (dk_at dksX10_playedBack_0 7 rfl rfl)
theorem dX10_playedBack_8 : decode cX10_playedBack 8 = .ok (.if_icmp .ge 8, 3) := dk_162 0 8 (dk_at dksX10_playedBack_0 8 rfl rfl)
theorem dX10_playedBack_11 : decode cX10_playedBack 11 = .ok (.bipush 126, 2) := dk_16 126 (dk_at dksX10_playedBack_0 11 rfl rfl)
theorem dX10_playedBack_13 : decode cX10_playedBack 13 = .ok (.goto 25, 3) := dk_167 0 25 (dk_at dksX10_playedBack_0 13 rfl rfl)
theorem dX10_playedBack_16 : decode cX10_playedBack 16 = .ok (.aload_n 0, 1) := dk_42 (dk_at dksX10_playedBack_0 16 rfl rfl)
theorem dX10_playedBack_17 : decode cX10_playedBack 17 = .ok (.getfield 59, 3) := dk_180 0 59 (dk_at dksX10_playedBack_0 17 rfl rfl)
theorem dX10_playedBack_20 : decode cX10_playedBack 20 = .ok (.sipush 409, 3) := dk_17 1 153 (dk_at dksX10_playedBack_0 20 rfl rfl)
theorem dX10_playedBack_23 : decode cX10_playedBack 23 = .ok (.aload_n 0, 1) := dk_42 (dk_at dksX10_playedBack_0 23 rfl rfl)
theorem dX10_playedBack_24 : decode cX10_playedBack 24 = .ok (.getfield 59, 3) := dk_180 0 59 (dk_at dksX10_playedBack_1 0 rfl rfl)
theorem dX10_playedBack_27 : decode cX10_playedBack 27 = .ok (.bipush 6, 2) := dk_16 6 (dk_at dksX10_playedBack_1 3 rfl rfl)
theorem dX10_playedBack_29 : decode cX10_playedBack 29 = .ok (.iaload, 1) := dk_46 (dk_at dksX10_playedBack_1 5 rfl rfl)
theorem dX10_playedBack_30 : decode cX10_playedBack 30 = .ok (.iload_n 1, 1) := dk_27 (dk_at dksX10_playedBack_1 6 rfl rfl)
theorem dX10_playedBack_31 : decode cX10_playedBack 31 = .ok (.isub, 1) := dk_100 (dk_at dksX10_playedBack_1 7 rfl rfl)
theorem dX10_playedBack_32 : decode cX10_playedBack 32 = .ok (.sipush 128, 3) := dk_17 0 128 (dk_at dksX10_playedBack_1 8 rfl rfl)
theorem dX10_playedBack_35 : decode cX10_playedBack 35 = .ok (.irem, 1) := dk_112 (dk_at dksX10_playedBack_1 11 rfl rfl)
theorem dX10_playedBack_36 : decode cX10_playedBack 36 = .ok (.iadd, 1) := dk_96 (dk_at dksX10_playedBack_1 12 rfl rfl)
theorem dX10_playedBack_37 : decode cX10_playedBack 37 = .ok (.iaload, 1) := dk_46 (dk_at dksX10_playedBack_1 13 rfl rfl)
theorem dX10_playedBack_38 : decode cX10_playedBack 38 = .ok (.ireturn, 1) := dk_172 (dk_at dksX10_playedBack_1 14 rfl rfl)
abbrev cX10_lose : ByteArray := prog_22_method_72_code
def yX10_lose : MethodName := ⟨RX10, "lose", "(I)I"⟩
def dkwX10_lose_0 : List UInt8 := [42, 182, 0, 247, 42, 16, 25, 27, 3, 16, 20, 2, 182, 1, 134, 172]
abbrev dktX10_lose_0 : List UInt8 := dkwX10_lose_0 ++ []
theorem dksX10_lose_0 : cX10_lose.data.toList.drop 0 = dktX10_lose_0 := by decide +kernel
theorem dX10_lose_0 : decode cX10_lose 0 = .ok (.aload_n 0, 1) := dk_42 (dk_at dksX10_lose_0 0 rfl rfl)
theorem dX10_lose_1 : decode cX10_lose 1 = .ok (.invokevirtual 247, 3) := dk_182 0 247 (dk_at dksX10_lose_0 1 rfl rfl)
theorem dX10_lose_4 : decode cX10_lose 4 = .ok (.aload_n 0, 1) := dk_42 (dk_at dksX10_lose_0 4 rfl rfl)
theorem dX10_lose_5 : decode cX10_lose 5 = .ok (.bipush 25, 2) := dk_16 25 (dk_at dksX10_lose_0 5 rfl rfl)
theorem dX10_lose_7 : decode cX10_lose 7 = .ok (.iload_n 1, 1) := dk_27 (dk_at dksX10_lose_0 7 rfl rfl)
theorem dX10_lose_8 : decode cX10_lose 8 = .ok (.iconst 0, 1) := dk_3 (dk_at dksX10_lose_0 8 rfl rfl)
theorem dX10_lose_9 : decode cX10_lose 9 = .ok (.bipush 20, 2) := dk_16 20 (dk_at dksX10_lose_0 9 rfl rfl)
theorem dX10_lose_11 : decode cX10_lose 11 = .ok (.iconst (-1), 1) := dk_2 (dk_at dksX10_lose_0 11 rfl rfl)
theorem dX10_lose_12 : decode cX10_lose 12 = .ok (.invokevirtual 390, 3) := dk_182 1 134 (dk_at dksX10_lose_0 12 rfl rfl)
theorem dX10_lose_15 : decode cX10_lose 15 = .ok (.ireturn, 1) := dk_172 (dk_at dksX10_lose_0 15 rfl rfl)
abbrev cX10_turnTo : ByteArray := prog_22_method_71_code
def yX10_turnTo : MethodName := ⟨RX10, "turnTo", "(IIIII)I"⟩
def dkwX10_turnTo_2 : List UInt8 := [21, 6, 172]
abbrev dktX10_turnTo_2 : List UInt8 := dkwX10_turnTo_2 ++ []
def dkwX10_turnTo_1 : List UInt8 := [160, 0, 12, 42, 4, 182, 1, 125, 87, 21, 5, 172, 42, 182, 1, 128, 42, 180, 0, 59, 27, 28, 79]
abbrev dktX10_turnTo_1 : List UInt8 := dkwX10_turnTo_1 ++ dktX10_turnTo_2
def dkwX10_turnTo_0 : List UInt8 := [42, 180, 0, 59, 27, 46, 54, 6, 28, 133, 29, 133, 21, 4, 133, 184, 1, 102, 153, 0, 9, 28, 21, 6]
abbrev dktX10_turnTo_0 : List UInt8 := dkwX10_turnTo_0 ++ dktX10_turnTo_1
theorem dksX10_turnTo_0 : cX10_turnTo.data.toList.drop 0 = dktX10_turnTo_0 := by decide +kernel
theorem dksX10_turnTo_1 : cX10_turnTo.data.toList.drop 24 = dktX10_turnTo_1 := dk_seg dksX10_turnTo_0 24 rfl rfl
theorem dksX10_turnTo_2 : cX10_turnTo.data.toList.drop 47 = dktX10_turnTo_2 := dk_seg dksX10_turnTo_1 23 rfl rfl
theorem dX10_turnTo_0 : decode cX10_turnTo 0 = .ok (.aload_n 0, 1) := dk_42 (dk_at dksX10_turnTo_0 0 rfl rfl)
theorem dX10_turnTo_1 : decode cX10_turnTo 1 = .ok (.getfield 59, 3) := dk_180 0 59 (dk_at dksX10_turnTo_0 1 rfl rfl)
theorem dX10_turnTo_4 : decode cX10_turnTo 4 = .ok (.iload_n 1, 1) := dk_27 (dk_at dksX10_turnTo_0 4 rfl rfl)
theorem dX10_turnTo_5 : decode cX10_turnTo 5 = .ok (.iaload, 1) := dk_46 (dk_at dksX10_turnTo_0 5 rfl rfl)
theorem dX10_turnTo_6 : decode cX10_turnTo 6 = .ok (.istore 6, 2) := dk_54 6 (dk_at dksX10_turnTo_0 6 rfl rfl)
theorem dX10_turnTo_8 : decode cX10_turnTo 8 = .ok (.iload_n 2, 1) := dk_28 (dk_at dksX10_turnTo_0 8 rfl rfl)
theorem dX10_turnTo_9 : decode cX10_turnTo 9 = .ok (.i2l, 1) := dk_133 (dk_at dksX10_turnTo_0 9 rfl rfl)
theorem dX10_turnTo_10 : decode cX10_turnTo 10 = .ok (.iload_n 3, 1) := dk_29 (dk_at dksX10_turnTo_0 10 rfl rfl)
theorem dX10_turnTo_11 : decode cX10_turnTo 11 = .ok (.i2l, 1) := dk_133 (dk_at dksX10_turnTo_0 11 rfl rfl)
theorem dX10_turnTo_12 : decode cX10_turnTo 12 = .ok (.iload 4, 2) := dk_21 4 (dk_at dksX10_turnTo_0 12 rfl rfl)
theorem dX10_turnTo_14 : decode cX10_turnTo 14 = .ok (.i2l, 1) := dk_133 (dk_at dksX10_turnTo_0 14 rfl rfl)
theorem dX10_turnTo_15 : decode cX10_turnTo 15 = .ok (.invokestatic 358, 3) := dk_184 1 102 (dk_at dksX10_turnTo_0 15 rfl rfl)
theorem dX10_turnTo_18 : decode cX10_turnTo 18 = .ok (.ifCond .eq 9, 3) := dk_153 0 9 (dk_at dksX10_turnTo_0 18 rfl rfl)
theorem dX10_turnTo_21 : decode cX10_turnTo 21 = .ok (.iload_n 2, 1) := dk_28 (dk_at dksX10_turnTo_0 21 rfl rfl)
theorem dX10_turnTo_22 : decode cX10_turnTo 22 = .ok (.iload 6, 2) := dk_21 6 (dk_at dksX10_turnTo_0 22 rfl rfl)
theorem dX10_turnTo_24 : decode cX10_turnTo 24 = .ok (.if_icmp .ne 12, 3) := dk_160 0 12 (dk_at dksX10_turnTo_1 0 rfl rfl)
theorem dX10_turnTo_27 : decode cX10_turnTo 27 = .ok (.aload_n 0, 1) := dk_42 (dk_at dksX10_turnTo_1 3 rfl rfl)
theorem dX10_turnTo_28 : decode cX10_turnTo 28 = .ok (.iconst 1, 1) := dk_4 (dk_at dksX10_turnTo_1 4 rfl rfl)
theorem dX10_turnTo_29 : decode cX10_turnTo 29 = .ok (.invokevirtual 381, 3) := dk_182 1 125 (dk_at dksX10_turnTo_1 5 rfl rfl)
theorem dX10_turnTo_32 : decode cX10_turnTo 32 = .ok (.pop, 1) := dk_87 (dk_at dksX10_turnTo_1 8 rfl rfl)
theorem dX10_turnTo_33 : decode cX10_turnTo 33 = .ok (.iload 5, 2) := dk_21 5 (dk_at dksX10_turnTo_1 9 rfl rfl)
theorem dX10_turnTo_35 : decode cX10_turnTo 35 = .ok (.ireturn, 1) := dk_172 (dk_at dksX10_turnTo_1 11 rfl rfl)
theorem dX10_turnTo_36 : decode cX10_turnTo 36 = .ok (.aload_n 0, 1) := dk_42 (dk_at dksX10_turnTo_1 12 rfl rfl)
theorem dX10_turnTo_37 : decode cX10_turnTo 37 = .ok (.invokevirtual 384, 3) := dk_182 1 128 (dk_at dksX10_turnTo_1 13 rfl rfl)
theorem dX10_turnTo_40 : decode cX10_turnTo 40 = .ok (.aload_n 0, 1) := dk_42 (dk_at dksX10_turnTo_1 16 rfl rfl)
theorem dX10_turnTo_41 : decode cX10_turnTo 41 = .ok (.getfield 59, 3) := dk_180 0 59 (dk_at dksX10_turnTo_1 17 rfl rfl)
theorem dX10_turnTo_44 : decode cX10_turnTo 44 = .ok (.iload_n 1, 1) := dk_27 (dk_at dksX10_turnTo_1 20 rfl rfl)
theorem dX10_turnTo_45 : decode cX10_turnTo 45 = .ok (.iload_n 2, 1) := dk_28 (dk_at dksX10_turnTo_1 21 rfl rfl)
theorem dX10_turnTo_46 : decode cX10_turnTo 46 = .ok (.iastore, 1) := dk_79 (dk_at dksX10_turnTo_1 22 rfl rfl)
theorem dX10_turnTo_47 : decode cX10_turnTo 47 = .ok (.iload 6, 2) := dk_21 6 (dk_at dksX10_turnTo_2 0 rfl rfl)
theorem dX10_turnTo_49 : decode cX10_turnTo 49 = .ok (.ireturn, 1) := dk_172 (dk_at dksX10_turnTo_2 2 rfl rfl)
abbrev cX10_stall : ByteArray := prog_22_method_73_code
def yX10_stall : MethodName := ⟨RX10, "stall", "(I)I"⟩
def dkwX10_stall_0 : List UInt8 := [42, 182, 0, 247, 42, 16, 26, 27, 3, 16, 30, 2, 182, 1, 134, 172]
abbrev dktX10_stall_0 : List UInt8 := dkwX10_stall_0 ++ []
theorem dksX10_stall_0 : cX10_stall.data.toList.drop 0 = dktX10_stall_0 := by decide +kernel
theorem dX10_stall_0 : decode cX10_stall 0 = .ok (.aload_n 0, 1) := dk_42 (dk_at dksX10_stall_0 0 rfl rfl)
theorem dX10_stall_1 : decode cX10_stall 1 = .ok (.invokevirtual 247, 3) := dk_182 0 247 (dk_at dksX10_stall_0 1 rfl rfl)
theorem dX10_stall_4 : decode cX10_stall 4 = .ok (.aload_n 0, 1) := dk_42 (dk_at dksX10_stall_0 4 rfl rfl)
theorem dX10_stall_5 : decode cX10_stall 5 = .ok (.bipush 26, 2) := dk_16 26 (dk_at dksX10_stall_0 5 rfl rfl)
theorem dX10_stall_7 : decode cX10_stall 7 = .ok (.iload_n 1, 1) := dk_27 (dk_at dksX10_stall_0 7 rfl rfl)
theorem dX10_stall_8 : decode cX10_stall 8 = .ok (.iconst 0, 1) := dk_3 (dk_at dksX10_stall_0 8 rfl rfl)
theorem dX10_stall_9 : decode cX10_stall 9 = .ok (.bipush 30, 2) := dk_16 30 (dk_at dksX10_stall_0 9 rfl rfl)
theorem dX10_stall_11 : decode cX10_stall 11 = .ok (.iconst (-1), 1) := dk_2 (dk_at dksX10_stall_0 11 rfl rfl)
theorem dX10_stall_12 : decode cX10_stall 12 = .ok (.invokevirtual 390, 3) := dk_182 1 134 (dk_at dksX10_stall_0 12 rfl rfl)
theorem dX10_stall_15 : decode cX10_stall 15 = .ok (.ireturn, 1) := dk_172 (dk_at dksX10_stall_0 15 rfl rfl)
abbrev cX10_turn : ByteArray := prog_22_method_74_code
def yX10_turn : MethodName := ⟨RX10, "turn", "(II)I"⟩
def dkwX10_turn_3 : List UInt8 := [182, 1, 134, 172, 42, 16, 29, 28, 4, 16, 64, 17, 39, 16, 182, 1, 134, 172, 42, 4, 182, 0, 250, 172]
abbrev dktX10_turn_3 : List UInt8 := dkwX10_turn_3 ++ []
def dkwX10_turn_2 : List UInt8 := [42, 16, 27, 28, 16, 157, 16, 99, 17, 39, 16, 182, 1, 134, 172, 42, 16, 28, 28, 3, 5, 17, 39, 16]
abbrev dktX10_turn_2 : List UInt8 := dkwX10_turn_2 ++ dktX10_turn_3
def dkwX10_turn_1 : List UInt8 := [170, 0, 0, 0, 0, 0, 69, 0, 0, 0, 0, 0, 0, 0, 2, 0, 0, 0, 27, 0, 0, 0, 42, 0, 0, 0, 55]
abbrev dktX10_turn_1 : List UInt8 := dkwX10_turn_1 ++ dktX10_turn_2
def dkwX10_turn_0 : List UInt8 := [42, 182, 0, 247, 27]
abbrev dktX10_turn_0 : List UInt8 := dkwX10_turn_0 ++ dktX10_turn_1
theorem dksX10_turn_0 : cX10_turn.data.toList.drop 0 = dktX10_turn_0 := by decide +kernel
theorem dksX10_turn_1 : cX10_turn.data.toList.drop 5 = dktX10_turn_1 := dk_seg dksX10_turn_0 5 rfl rfl
theorem dksX10_turn_2 : cX10_turn.data.toList.drop 32 = dktX10_turn_2 := dk_seg dksX10_turn_1 27 rfl rfl
theorem dksX10_turn_3 : cX10_turn.data.toList.drop 56 = dktX10_turn_3 := dk_seg dksX10_turn_2 24 rfl rfl
theorem dX10_turn_0 : decode cX10_turn 0 = .ok (.aload_n 0, 1) := dk_42 (dk_at dksX10_turn_0 0 rfl rfl)
theorem dX10_turn_1 : decode cX10_turn 1 = .ok (.invokevirtual 247, 3) := dk_182 0 247 (dk_at dksX10_turn_0 1 rfl rfl)
theorem dX10_turn_4 : decode cX10_turn 4 = .ok (.iload_n 1, 1) := dk_27 (dk_at dksX10_turn_0 4 rfl rfl)
theorem dX10_turn_5 : decode cX10_turn 5 = .ok (.tableswitch 69 0 2 #[27, 42, 55], 27) := by decide +kernel
theorem dX10_turn_32 : decode cX10_turn 32 = .ok (.aload_n 0, 1) := dk_42 (dk_at dksX10_turn_2 0 rfl rfl)
theorem dX10_turn_33 : decode cX10_turn 33 = .ok (.bipush 27, 2) := dk_16 27 (dk_at dksX10_turn_2 1 rfl rfl)
theorem dX10_turn_35 : decode cX10_turn 35 = .ok (.iload_n 2, 1) := dk_28 (dk_at dksX10_turn_2 3 rfl rfl)
theorem dX10_turn_36 : decode cX10_turn 36 = .ok (.bipush (-99), 2) := dk_16 157 (dk_at dksX10_turn_2 4 rfl rfl)
theorem dX10_turn_38 : decode cX10_turn 38 = .ok (.bipush 99, 2) := dk_16 99 (dk_at dksX10_turn_2 6 rfl rfl)
theorem dX10_turn_40 : decode cX10_turn 40 = .ok (.sipush 10000, 3) := dk_17 39 16 (dk_at dksX10_turn_2 8 rfl rfl)
theorem dX10_turn_43 : decode cX10_turn 43 = .ok (.invokevirtual 390, 3) := dk_182 1 134 (dk_at dksX10_turn_2 11 rfl rfl)
theorem dX10_turn_46 : decode cX10_turn 46 = .ok (.ireturn, 1) := dk_172 (dk_at dksX10_turn_2 14 rfl rfl)
theorem dX10_turn_47 : decode cX10_turn 47 = .ok (.aload_n 0, 1) := dk_42 (dk_at dksX10_turn_2 15 rfl rfl)
theorem dX10_turn_48 : decode cX10_turn 48 = .ok (.bipush 28, 2) := dk_16 28 (dk_at dksX10_turn_2 16 rfl rfl)
theorem dX10_turn_50 : decode cX10_turn 50 = .ok (.iload_n 2, 1) := dk_28 (dk_at dksX10_turn_2 18 rfl rfl)
theorem dX10_turn_51 : decode cX10_turn 51 = .ok (.iconst 0, 1) := dk_3 (dk_at dksX10_turn_2 19 rfl rfl)
theorem dX10_turn_52 : decode cX10_turn 52 = .ok (.iconst 2, 1) := dk_5 (dk_at dksX10_turn_2 20 rfl rfl)
theorem dX10_turn_53 : decode cX10_turn 53 = .ok (.sipush 10000, 3) := dk_17 39 16 (dk_at dksX10_turn_2 21 rfl rfl)
theorem dX10_turn_56 : decode cX10_turn 56 = .ok (.invokevirtual 390, 3) := dk_182 1 134 (dk_at dksX10_turn_3 0 rfl rfl)
theorem dX10_turn_59 : decode cX10_turn 59 = .ok (.ireturn, 1) := dk_172 (dk_at dksX10_turn_3 3 rfl rfl)
theorem dX10_turn_60 : decode cX10_turn 60 = .ok (.aload_n 0, 1) := dk_42 (dk_at dksX10_turn_3 4 rfl rfl)
theorem dX10_turn_61 : decode cX10_turn 61 = .ok (.bipush 29, 2) := dk_16 29 (dk_at dksX10_turn_3 5 rfl rfl)
theorem dX10_turn_63 : decode cX10_turn 63 = .ok (.iload_n 2, 1) := dk_28 (dk_at dksX10_turn_3 7 rfl rfl)
theorem dX10_turn_64 : decode cX10_turn 64 = .ok (.iconst 1, 1) := dk_4 (dk_at dksX10_turn_3 8 rfl rfl)
theorem dX10_turn_65 : decode cX10_turn 65 = .ok (.bipush 64, 2) := dk_16 64 (dk_at dksX10_turn_3 9 rfl rfl)
theorem dX10_turn_67 : decode cX10_turn 67 = .ok (.sipush 10000, 3) := dk_17 39 16 (dk_at dksX10_turn_3 11 rfl rfl)
theorem dX10_turn_70 : decode cX10_turn 70 = .ok (.invokevirtual 390, 3) := dk_182 1 134 (dk_at dksX10_turn_3 14 rfl rfl)
theorem dX10_turn_73 : decode cX10_turn 73 = .ok (.ireturn, 1) := dk_172 (dk_at dksX10_turn_3 17 rfl rfl)
theorem dX10_turn_74 : decode cX10_turn 74 = .ok (.aload_n 0, 1) := dk_42 (dk_at dksX10_turn_3 18 rfl rfl)
theorem dX10_turn_75 : decode cX10_turn 75 = .ok (.iconst 1, 1) := dk_4 (dk_at dksX10_turn_3 19 rfl rfl)
theorem dX10_turn_76 : decode cX10_turn 76 = .ok (.invokevirtual 250, 3) := dk_182 0 250 (dk_at dksX10_turn_3 20 rfl rfl)
theorem dX10_turn_79 : decode cX10_turn 79 = .ok (.ireturn, 1) := dk_172 (dk_at dksX10_turn_3 23 rfl rfl)
abbrev cX10_undo : ByteArray := prog_22_method_75_code
def yX10_undo : MethodName := ⟨RX10, "undo", "()I"⟩
def dkwX10_undo_2 : List UInt8 := [104, 27, 96, 46, 79, 132, 1, 1, 167, 255, 225, 42, 180, 1, 22, 172]
abbrev dktX10_undo_2 : List UInt8 := dkwX10_undo_2 ++ []
def dkwX10_undo_1 : List UInt8 := [60, 27, 17, 2, 153, 162, 0, 30, 42, 180, 0, 59, 27, 42, 180, 0, 85, 17, 2, 153, 42, 180, 1, 22]
abbrev dktX10_undo_1 : List UInt8 := dkwX10_undo_1 ++ dktX10_undo_2
def dkwX10_undo_0 : List UInt8 := [42, 182, 0, 247, 42, 180, 1, 22, 154, 0, 5, 2, 172, 42, 89, 180, 1, 22, 4, 100, 181, 1, 22, 3]
abbrev dktX10_undo_0 : List UInt8 := dkwX10_undo_0 ++ dktX10_undo_1
theorem dksX10_undo_0 : cX10_undo.data.toList.drop 0 = dktX10_undo_0 := by decide +kernel
theorem dksX10_undo_1 : cX10_undo.data.toList.drop 24 = dktX10_undo_1 := dk_seg dksX10_undo_0 24 rfl rfl
theorem dksX10_undo_2 : cX10_undo.data.toList.drop 48 = dktX10_undo_2 := dk_seg dksX10_undo_1 24 rfl rfl
theorem dX10_undo_0 : decode cX10_undo 0 = .ok (.aload_n 0, 1) := dk_42 (dk_at dksX10_undo_0 0 rfl rfl)
theorem dX10_undo_1 : decode cX10_undo 1 = .ok (.invokevirtual 247, 3) := dk_182 0 247 (dk_at dksX10_undo_0 1 rfl rfl)
theorem dX10_undo_4 : decode cX10_undo 4 = .ok (.aload_n 0, 1) := dk_42 (dk_at dksX10_undo_0 4 rfl rfl)
theorem dX10_undo_5 : decode cX10_undo 5 = .ok (.getfield 278, 3) := dk_180 1 22 (dk_at dksX10_undo_0 5 rfl rfl)
theorem dX10_undo_8 : decode cX10_undo 8 = .ok (.ifCond .ne 5, 3) := dk_154 0 5 (dk_at dksX10_undo_0 8 rfl rfl)
theorem dX10_undo_11 : decode cX10_undo 11 = .ok (.iconst (-1), 1) := dk_2 (dk_at dksX10_undo_0 11 rfl rfl)
theorem dX10_undo_12 : decode cX10_undo 12 = .ok (.ireturn, 1) := dk_172 (dk_at dksX10_undo_0 12 rfl rfl)
theorem dX10_undo_13 : decode cX10_undo 13 = .ok (.aload_n 0, 1) := dk_42 (dk_at dksX10_undo_0 13 rfl rfl)
theorem dX10_undo_14 : decode cX10_undo 14 = .ok (.dup, 1) := dk_89 (dk_at dksX10_undo_0 14 rfl rfl)
theorem dX10_undo_15 : decode cX10_undo 15 = .ok (.getfield 278, 3) := dk_180 1 22 (dk_at dksX10_undo_0 15 rfl rfl)
theorem dX10_undo_18 : decode cX10_undo 18 = .ok (.iconst 1, 1) := dk_4 (dk_at dksX10_undo_0 18 rfl rfl)
theorem dX10_undo_19 : decode cX10_undo 19 = .ok (.isub, 1) := dk_100 (dk_at dksX10_undo_0 19 rfl rfl)
theorem dX10_undo_20 : decode cX10_undo 20 = .ok (.putfield 278, 3) := dk_181 1 22 (dk_at dksX10_undo_0 20 rfl rfl)
theorem dX10_undo_23 : decode cX10_undo 23 = .ok (.iconst 0, 1) := dk_3 (dk_at dksX10_undo_0 23 rfl rfl)
theorem dX10_undo_24 : decode cX10_undo 24 = .ok (.istore_n 1, 1) := dk_60 (dk_at dksX10_undo_1 0 rfl rfl)
theorem dX10_undo_25 : decode cX10_undo 25 = .ok (.iload_n 1, 1) := dk_27 (dk_at dksX10_undo_1 1 rfl rfl)
theorem dX10_undo_26 : decode cX10_undo 26 = .ok (.sipush 665, 3) := dk_17 2 153 (dk_at dksX10_undo_1 2 rfl rfl)
theorem dX10_undo_29 : decode cX10_undo 29 = .ok (.if_icmp .ge 30, 3) := dk_162 0 30 (dk_at dksX10_undo_1 5 rfl rfl)
theorem dX10_undo_32 : decode cX10_undo 32 = .ok (.aload_n 0, 1) := dk_42 (dk_at dksX10_undo_1 8 rfl rfl)
theorem dX10_undo_33 : decode cX10_undo 33 = .ok (.getfield 59, 3) := dk_180 0 59 (dk_at dksX10_undo_1 9 rfl rfl)
theorem dX10_undo_36 : decode cX10_undo 36 = .ok (.iload_n 1, 1) := dk_27 (dk_at dksX10_undo_1 12 rfl rfl)
theorem dX10_undo_37 : decode cX10_undo 37 = .ok (.aload_n 0, 1) := dk_42 (dk_at dksX10_undo_1 13 rfl rfl)
theorem dX10_undo_38 : decode cX10_undo 38 = .ok (.getfield 85, 3) := dk_180 0 85 (dk_at dksX10_undo_1 14 rfl rfl)
theorem dX10_undo_41 : decode cX10_undo 41 = .ok (.sipush 665, 3) := dk_17 2 153 (dk_at dksX10_undo_1 17 rfl rfl)
theorem dX10_undo_44 : decode cX10_undo 44 = .ok (.aload_n 0, 1) := dk_42 (dk_at dksX10_undo_1 20 rfl rfl)
theorem dX10_undo_45 : decode cX10_undo 45 = .ok (.getfield 278, 3) := dk_180 1 22 (dk_at dksX10_undo_1 21 rfl rfl)
theorem dX10_undo_48 : decode cX10_undo 48 = .ok (.imul, 1) := dk_104 (dk_at dksX10_undo_2 0 rfl rfl)
theorem dX10_undo_49 : decode cX10_undo 49 = .ok (.iload_n 1, 1) := dk_27 (dk_at dksX10_undo_2 1 rfl rfl)
theorem dX10_undo_50 : decode cX10_undo 50 = .ok (.iadd, 1) := dk_96 (dk_at dksX10_undo_2 2 rfl rfl)
theorem dX10_undo_51 : decode cX10_undo 51 = .ok (.iaload, 1) := dk_46 (dk_at dksX10_undo_2 3 rfl rfl)
theorem dX10_undo_52 : decode cX10_undo 52 = .ok (.iastore, 1) := dk_79 (dk_at dksX10_undo_2 4 rfl rfl)
theorem dX10_undo_53 : decode cX10_undo 53 = .ok (.iinc 1 1, 3) := dk_132 1 1 (dk_at dksX10_undo_2 5 rfl rfl)
theorem dX10_undo_56 : decode cX10_undo 56 = .ok (.goto (-31), 3) := dk_167 255 225 (dk_at dksX10_undo_2 8 rfl rfl)
theorem dX10_undo_59 : decode cX10_undo 59 = .ok (.aload_n 0, 1) := dk_42 (dk_at dksX10_undo_2 11 rfl rfl)
theorem dX10_undo_60 : decode cX10_undo 60 = .ok (.getfield 278, 3) := dk_180 1 22 (dk_at dksX10_undo_2 12 rfl rfl)
theorem dX10_undo_63 : decode cX10_undo 63 = .ok (.ireturn, 1) := dk_172 (dk_at dksX10_undo_2 15 rfl rfl)
abbrev cX10_then : ByteArray := prog_22_method_78_code
def yX10_then : MethodName := ⟨RX10, "then", "(II)I"⟩
def dkwX10_then_4 : List UInt8 := [167, 0, 14, 28, 7, 160, 0, 8, 16, 7, 167, 0, 4, 7, 46, 182, 1, 149, 172]
abbrev dktX10_then_4 : List UInt8 := dkwX10_then_4 ++ []
def dkwX10_then_3 : List UInt8 := [16, 9, 167, 0, 34, 28, 5, 160, 0, 8, 16, 8, 167, 0, 24, 28, 6, 160, 0, 8, 16, 6]
abbrev dktX10_then_3 : List UInt8 := dkwX10_then_3 ++ dktX10_then_4
def dkwX10_then_2 : List UInt8 := [182, 1, 131, 42, 28, 154, 0, 10, 42, 182, 1, 69, 167, 0, 49, 42, 180, 0, 59, 28, 4, 160, 0, 8]
abbrev dktX10_then_2 : List UInt8 := dkwX10_then_2 ++ dktX10_then_3
def dkwX10_then_1 : List UInt8 := [9, 20, 1, 144, 184, 1, 102, 154, 0, 9, 42, 5, 182, 0, 250, 172, 42, 182, 1, 146, 42, 27]
abbrev dktX10_then_1 : List UInt8 := dkwX10_then_1 ++ dktX10_then_2
def dkwX10_then_0 : List UInt8 := [42, 182, 0, 247, 28, 133, 9, 20, 1, 142, 184, 1, 102, 154, 0, 9, 42, 4, 182, 0, 250, 172, 27, 133]
abbrev dktX10_then_0 : List UInt8 := dkwX10_then_0 ++ dktX10_then_1
theorem dksX10_then_0 : cX10_then.data.toList.drop 0 = dktX10_then_0 := by decide +kernel
theorem dksX10_then_1 : cX10_then.data.toList.drop 24 = dktX10_then_1 := dk_seg dksX10_then_0 24 rfl rfl
theorem dksX10_then_2 : cX10_then.data.toList.drop 46 = dktX10_then_2 := dk_seg dksX10_then_1 22 rfl rfl
theorem dksX10_then_3 : cX10_then.data.toList.drop 70 = dktX10_then_3 := dk_seg dksX10_then_2 24 rfl rfl
theorem dksX10_then_4 : cX10_then.data.toList.drop 92 = dktX10_then_4 := dk_seg dksX10_then_3 22 rfl rfl
theorem dX10_then_0 : decode cX10_then 0 = .ok (.aload_n 0, 1) := dk_42 (dk_at dksX10_then_0 0 rfl rfl)
theorem dX10_then_1 : decode cX10_then 1 = .ok (.invokevirtual 247, 3) := dk_182 0 247 (dk_at dksX10_then_0 1 rfl rfl)
theorem dX10_then_4 : decode cX10_then 4 = .ok (.iload_n 2, 1) := dk_28 (dk_at dksX10_then_0 4 rfl rfl)
theorem dX10_then_5 : decode cX10_then 5 = .ok (.i2l, 1) := dk_133 (dk_at dksX10_then_0 5 rfl rfl)
theorem dX10_then_6 : decode cX10_then 6 = .ok (.lconst 0, 1) := dk_9 (dk_at dksX10_then_0 6 rfl rfl)
theorem dX10_then_7 : decode cX10_then 7 = .ok (.ldc2_w 398, 3) := dk_20 1 142 (dk_at dksX10_then_0 7 rfl rfl)
theorem dX10_then_10 : decode cX10_then 10 = .ok (.invokestatic 358, 3) := dk_184 1 102 (dk_at dksX10_then_0 10 rfl rfl)
theorem dX10_then_13 : decode cX10_then 13 = .ok (.ifCond .ne 9, 3) := dk_154 0 9 (dk_at dksX10_then_0 13 rfl rfl)
theorem dX10_then_16 : decode cX10_then 16 = .ok (.aload_n 0, 1) := dk_42 (dk_at dksX10_then_0 16 rfl rfl)
theorem dX10_then_17 : decode cX10_then 17 = .ok (.iconst 1, 1) := dk_4 (dk_at dksX10_then_0 17 rfl rfl)
theorem dX10_then_18 : decode cX10_then 18 = .ok (.invokevirtual 250, 3) := dk_182 0 250 (dk_at dksX10_then_0 18 rfl rfl)
theorem dX10_then_21 : decode cX10_then 21 = .ok (.ireturn, 1) := dk_172 (dk_at dksX10_then_0 21 rfl rfl)
theorem dX10_then_22 : decode cX10_then 22 = .ok (.iload_n 1, 1) := dk_27 (dk_at dksX10_then_0 22 rfl rfl)
theorem dX10_then_23 : decode cX10_then 23 = .ok (.i2l, 1) := dk_133 (dk_at dksX10_then_0 23 rfl rfl)
theorem dX10_then_24 : decode cX10_then 24 = .ok (.lconst 0, 1) := dk_9 (dk_at dksX10_then_1 0 rfl rfl)
theorem dX10_then_25 : decode cX10_then 25 = .ok (.ldc2_w 400, 3) := dk_20 1 144 (dk_at dksX10_then_1 1 rfl rfl)
theorem dX10_then_28 : decode cX10_then 28 = .ok (.invokestatic 358, 3) := dk_184 1 102 (dk_at dksX10_then_1 4 rfl rfl)
theorem dX10_then_31 : decode cX10_then 31 = .ok (.ifCond .ne 9, 3) := dk_154 0 9 (dk_at dksX10_then_1 7 rfl rfl)
theorem dX10_then_34 : decode cX10_then 34 = .ok (.aload_n 0, 1) := dk_42 (dk_at dksX10_then_1 10 rfl rfl)
theorem dX10_then_35 : decode cX10_then 35 = .ok (.iconst 2, 1) := dk_5 (dk_at dksX10_then_1 11 rfl rfl)
theorem dX10_then_36 : decode cX10_then 36 = .ok (.invokevirtual 250, 3) := dk_182 0 250 (dk_at dksX10_then_1 12 rfl rfl)
theorem dX10_then_39 : decode cX10_then 39 = .ok (.ireturn, 1) := dk_172 (dk_at dksX10_then_1 15 rfl rfl)
theorem dX10_then_40 : decode cX10_then 40 = .ok (.aload_n 0, 1) := dk_42 (dk_at dksX10_then_1 16 rfl rfl)
theorem dX10_then_41 : decode cX10_then 41 = .ok (.invokevirtual 402, 3) := dk_182 1 146 (dk_at dksX10_then_1 17 rfl rfl)
theorem dX10_then_44 : decode cX10_then 44 = .ok (.aload_n 0, 1) := dk_42 (dk_at dksX10_then_1 20 rfl rfl)
theorem dX10_then_45 : decode cX10_then 45 = .ok (.iload_n 1, 1) := dk_27 (dk_at dksX10_then_1 21 rfl rfl)
theorem dX10_then_46 : decode cX10_then 46 = .ok (.invokevirtual 387, 3) := dk_182 1 131 (dk_at dksX10_then_2 0 rfl rfl)
theorem dX10_then_49 : decode cX10_then 49 = .ok (.aload_n 0, 1) := dk_42 (dk_at dksX10_then_2 3 rfl rfl)
theorem dX10_then_50 : decode cX10_then 50 = .ok (.iload_n 2, 1) := dk_28 (dk_at dksX10_then_2 4 rfl rfl)
theorem dX10_then_51 : decode cX10_then 51 = .ok (.ifCond .ne 10, 3) := dk_154 0 10 (dk_at dksX10_then_2 5 rfl rfl)
theorem dX10_then_54 : decode cX10_then 54 = .ok (.aload_n 0, 1) := dk_42 (dk_at dksX10_then_2 8 rfl rfl)
theorem dX10_then_55 : decode cX10_then 55 = .ok (.invokevirtual 325, 3) := dk_182 1 69 (dk_at dksX10_then_2 9 rfl rfl)
theorem dX10_then_58 : decode cX10_then 58 = .ok (.goto 49, 3) := dk_167 0 49 (dk_at dksX10_then_2 12 rfl rfl)
theorem dX10_then_61 : decode cX10_then 61 = .ok (.aload_n 0, 1) := dk_42 (dk_at dksX10_then_2 15 rfl rfl)
theorem dX10_then_62 : decode cX10_then 62 = .ok (.getfield 59, 3) := dk_180 0 59 (dk_at dksX10_then_2 16 rfl rfl)
theorem dX10_then_65 : decode cX10_then 65 = .ok (.iload_n 2, 1) := dk_28 (dk_at dksX10_then_2 19 rfl rfl)
theorem dX10_then_66 : decode cX10_then 66 = .ok (.iconst 1, 1) := dk_4 (dk_at dksX10_then_2 20 rfl rfl)
theorem dX10_then_67 : decode cX10_then 67 = .ok (.if_icmp .ne 8, 3) := dk_160 0 8 (dk_at dksX10_then_2 21 rfl rfl)
theorem dX10_then_70 : decode cX10_then 70 = .ok (.bipush 9, 2) := dk_16 9 (dk_at dksX10_then_3 0 rfl rfl)
theorem dX10_then_72 : decode cX10_then 72 = .ok (.goto 34, 3) := dk_167 0 34 (dk_at dksX10_then_3 2 rfl rfl)
theorem dX10_then_75 : decode cX10_then 75 = .ok (.iload_n 2, 1) := dk_28 (dk_at dksX10_then_3 5 rfl rfl)
theorem dX10_then_76 : decode cX10_then 76 = .ok (.iconst 2, 1) := dk_5 (dk_at dksX10_then_3 6 rfl rfl)
theorem dX10_then_77 : decode cX10_then 77 = .ok (.if_icmp .ne 8, 3) := dk_160 0 8 (dk_at dksX10_then_3 7 rfl rfl)
theorem dX10_then_80 : decode cX10_then 80 = .ok (.bipush 8, 2) := dk_16 8 (dk_at dksX10_then_3 10 rfl rfl)
theorem dX10_then_82 : decode cX10_then 82 = .ok (.goto 24, 3) := dk_167 0 24 (dk_at dksX10_then_3 12 rfl rfl)
theorem dX10_then_85 : decode cX10_then 85 = .ok (.iload_n 2, 1) := dk_28 (dk_at dksX10_then_3 15 rfl rfl)
theorem dX10_then_86 : decode cX10_then 86 = .ok (.iconst 3, 1) := dk_6 (dk_at dksX10_then_3 16 rfl rfl)
theorem dX10_then_87 : decode cX10_then 87 = .ok (.if_icmp .ne 8, 3) := dk_160 0 8 (dk_at dksX10_then_3 17 rfl rfl)
theorem dX10_then_90 : decode cX10_then 90 = .ok (.bipush 6, 2) := dk_16 6 (dk_at dksX10_then_3 20 rfl rfl)
theorem dX10_then_92 : decode cX10_then 92 = .ok (.goto 14, 3) := dk_167 0 14 (dk_at dksX10_then_4 0 rfl rfl)
theorem dX10_then_95 : decode cX10_then 95 = .ok (.iload_n 2, 1) := dk_28 (dk_at dksX10_then_4 3 rfl rfl)
theorem dX10_then_96 : decode cX10_then 96 = .ok (.iconst 4, 1) := dk_7 (dk_at dksX10_then_4 4 rfl rfl)
theorem dX10_then_97 : decode cX10_then 97 = .ok (.if_icmp .ne 8, 3) := dk_160 0 8 (dk_at dksX10_then_4 5 rfl rfl)
theorem dX10_then_100 : decode cX10_then 100 = .ok (.bipush 7, 2) := dk_16 7 (dk_at dksX10_then_4 8 rfl rfl)
theorem dX10_then_102 : decode cX10_then 102 = .ok (.goto 4, 3) := dk_167 0 4 (dk_at dksX10_then_4 10 rfl rfl)
theorem dX10_then_105 : decode cX10_then 105 = .ok (.iconst 4, 1) := dk_7 (dk_at dksX10_then_4 13 rfl rfl)
theorem dX10_then_106 : decode cX10_then 106 = .ok (.iaload, 1) := dk_46 (dk_at dksX10_then_4 14 rfl rfl)
theorem dX10_then_107 : decode cX10_then 107 = .ok (.invokevirtual 405, 3) := dk_182 1 149 (dk_at dksX10_then_4 15 rfl rfl)
theorem dX10_then_110 : decode cX10_then 110 = .ok (.ireturn, 1) := dk_172 (dk_at dksX10_then_4 18 rfl rfl)
abbrev cX10_rememberNow : ByteArray := prog_22_method_76_code
def yX10_rememberNow : MethodName := ⟨RX10, "rememberNow", "()V"⟩
def dkwX10_rememberNow_0 : List UInt8 := [42, 180, 0, 88, 42, 180, 0, 59, 184, 1, 138, 177]
abbrev dktX10_rememberNow_0 : List UInt8 := dkwX10_rememberNow_0 ++ []
theorem dksX10_rememberNow_0 : cX10_rememberNow.data.toList.drop 0 = dktX10_rememberNow_0 := by decide +kernel
theorem dX10_rememberNow_0 : decode cX10_rememberNow 0 = .ok (.aload_n 0, 1) := dk_42 (dk_at dksX10_rememberNow_0 0 rfl rfl)
theorem dX10_rememberNow_1 : decode cX10_rememberNow 1 = .ok (.getfield 88, 3) := dk_180 0 88 (dk_at dksX10_rememberNow_0 1 rfl rfl)
theorem dX10_rememberNow_4 : decode cX10_rememberNow 4 = .ok (.aload_n 0, 1) := dk_42 (dk_at dksX10_rememberNow_0 4 rfl rfl)
theorem dX10_rememberNow_5 : decode cX10_rememberNow 5 = .ok (.getfield 59, 3) := dk_180 0 59 (dk_at dksX10_rememberNow_0 5 rfl rfl)
theorem dX10_rememberNow_8 : decode cX10_rememberNow 8 = .ok (.invokestatic 394, 3) := dk_184 1 138 (dk_at dksX10_rememberNow_0 8 rfl rfl)
theorem dX10_rememberNow_11 : decode cX10_rememberNow 11 = .ok (.return_, 1) := dk_177 (dk_at dksX10_rememberNow_0 11 rfl rfl)
abbrev cX10_copyTo : ByteArray := prog_22_method_68_code
def yX10_copyTo : MethodName := ⟨RX10, "copyTo", "([I[I)V"⟩
def dkwX10_copyTo_0 : List UInt8 := [3, 61, 28, 42, 190, 162, 0, 15, 42, 28, 43, 28, 46, 79, 132, 2, 1, 167, 255, 241, 177]
abbrev dktX10_copyTo_0 : List UInt8 := dkwX10_copyTo_0 ++ []
theorem dksX10_copyTo_0 : cX10_copyTo.data.toList.drop 0 = dktX10_copyTo_0 := by decide +kernel
theorem dX10_copyTo_0 : decode cX10_copyTo 0 = .ok (.iconst 0, 1) := dk_3 (dk_at dksX10_copyTo_0 0 rfl rfl)
theorem dX10_copyTo_1 : decode cX10_copyTo 1 = .ok (.istore_n 2, 1) := dk_61 (dk_at dksX10_copyTo_0 1 rfl rfl)
theorem dX10_copyTo_2 : decode cX10_copyTo 2 = .ok (.iload_n 2, 1) := dk_28 (dk_at dksX10_copyTo_0 2 rfl rfl)
theorem dX10_copyTo_3 : decode cX10_copyTo 3 = .ok (.aload_n 0, 1) := dk_42 (dk_at dksX10_copyTo_0 3 rfl rfl)
theorem dX10_copyTo_4 : decode cX10_copyTo 4 = .ok (.arraylength, 1) := dk_190 (dk_at dksX10_copyTo_0 4 rfl rfl)
theorem dX10_copyTo_5 : decode cX10_copyTo 5 = .ok (.if_icmp .ge 15, 3) := dk_162 0 15 (dk_at dksX10_copyTo_0 5 rfl rfl)
theorem dX10_copyTo_8 : decode cX10_copyTo 8 = .ok (.aload_n 0, 1) := dk_42 (dk_at dksX10_copyTo_0 8 rfl rfl)
theorem dX10_copyTo_9 : decode cX10_copyTo 9 = .ok (.iload_n 2, 1) := dk_28 (dk_at dksX10_copyTo_0 9 rfl rfl)
theorem dX10_copyTo_10 : decode cX10_copyTo 10 = .ok (.aload_n 1, 1) := dk_43 (dk_at dksX10_copyTo_0 10 rfl rfl)
theorem dX10_copyTo_11 : decode cX10_copyTo 11 = .ok (.iload_n 2, 1) := dk_28 (dk_at dksX10_copyTo_0 11 rfl rfl)
theorem dX10_copyTo_12 : decode cX10_copyTo 12 = .ok (.iaload, 1) := dk_46 (dk_at dksX10_copyTo_0 12 rfl rfl)
theorem dX10_copyTo_13 : decode cX10_copyTo 13 = .ok (.iastore, 1) := dk_79 (dk_at dksX10_copyTo_0 13 rfl rfl)
theorem dX10_copyTo_14 : decode cX10_copyTo 14 = .ok (.iinc 2 1, 3) := dk_132 2 1 (dk_at dksX10_copyTo_0 14 rfl rfl)
theorem dX10_copyTo_17 : decode cX10_copyTo 17 = .ok (.goto (-15), 3) := dk_167 255 241 (dk_at dksX10_copyTo_0 17 rfl rfl)
theorem dX10_copyTo_20 : decode cX10_copyTo 20 = .ok (.return_, 1) := dk_177 (dk_at dksX10_copyTo_0 20 rfl rfl)
abbrev cX10_back : ByteArray := prog_22_method_77_code
def yX10_back : MethodName := ⟨RX10, "back", "(I)I"⟩
def dkwX10_back_0 : List UInt8 := [42, 180, 0, 59, 42, 180, 0, 88, 184, 1, 138, 27, 172]
abbrev dktX10_back_0 : List UInt8 := dkwX10_back_0 ++ []
theorem dksX10_back_0 : cX10_back.data.toList.drop 0 = dktX10_back_0 := by decide +kernel
theorem dX10_back_0 : decode cX10_back 0 = .ok (.aload_n 0, 1) := dk_42 (dk_at dksX10_back_0 0 rfl rfl)
theorem dX10_back_1 : decode cX10_back 1 = .ok (.getfield 59, 3) := dk_180 0 59 (dk_at dksX10_back_0 1 rfl rfl)
theorem dX10_back_4 : decode cX10_back 4 = .ok (.aload_n 0, 1) := dk_42 (dk_at dksX10_back_0 4 rfl rfl)
theorem dX10_back_5 : decode cX10_back 5 = .ok (.getfield 88, 3) := dk_180 0 88 (dk_at dksX10_back_0 5 rfl rfl)
theorem dX10_back_8 : decode cX10_back 8 = .ok (.invokestatic 394, 3) := dk_184 1 138 (dk_at dksX10_back_0 8 rfl rfl)
theorem dX10_back_11 : decode cX10_back 11 = .ok (.iload_n 1, 1) := dk_27 (dk_at dksX10_back_0 11 rfl rfl)
theorem dX10_back_12 : decode cX10_back 12 = .ok (.ireturn, 1) := dk_172 (dk_at dksX10_back_0 12 rfl rfl)
abbrev cX10_when : ByteArray := prog_22_method_80_code
def yX10_when : MethodName := ⟨RX10, "when", "(I)I"⟩
def dkwX10_when_2 : List UInt8 := [182, 1, 149, 172, 42, 182, 1, 93, 132, 2, 1, 167, 255, 228, 42, 2, 182, 1, 149, 172]
abbrev dktX10_when_2 : List UInt8 := dkwX10_when_2 ++ []
def dkwX10_when_1 : List UInt8 := [182, 1, 146, 3, 61, 28, 17, 1, 144, 163, 0, 27, 42, 27, 182, 1, 154, 153, 0, 9, 42, 28]
abbrev dktX10_when_1 : List UInt8 := dkwX10_when_1 ++ dktX10_when_2
def dkwX10_when_0 : List UInt8 := [42, 182, 0, 247, 27, 133, 9, 20, 1, 152, 184, 1, 102, 154, 0, 9, 42, 4, 182, 0, 250, 172, 42]
abbrev dktX10_when_0 : List UInt8 := dkwX10_when_0 ++ dktX10_when_1
theorem dksX10_when_0 : cX10_when.data.toList.drop 0 = dktX10_when_0 := by decide +kernel
theorem dksX10_when_1 : cX10_when.data.toList.drop 23 = dktX10_when_1 := dk_seg dksX10_when_0 23 rfl rfl
theorem dksX10_when_2 : cX10_when.data.toList.drop 45 = dktX10_when_2 := dk_seg dksX10_when_1 22 rfl rfl
theorem dX10_when_0 : decode cX10_when 0 = .ok (.aload_n 0, 1) := dk_42 (dk_at dksX10_when_0 0 rfl rfl)
theorem dX10_when_1 : decode cX10_when 1 = .ok (.invokevirtual 247, 3) := dk_182 0 247 (dk_at dksX10_when_0 1 rfl rfl)
theorem dX10_when_4 : decode cX10_when 4 = .ok (.iload_n 1, 1) := dk_27 (dk_at dksX10_when_0 4 rfl rfl)
theorem dX10_when_5 : decode cX10_when 5 = .ok (.i2l, 1) := dk_133 (dk_at dksX10_when_0 5 rfl rfl)
theorem dX10_when_6 : decode cX10_when 6 = .ok (.lconst 0, 1) := dk_9 (dk_at dksX10_when_0 6 rfl rfl)
theorem dX10_when_7 : decode cX10_when 7 = .ok (.ldc2_w 408, 3) := dk_20 1 152 (dk_at dksX10_when_0 7 rfl rfl)
theorem dX10_when_10 : decode cX10_when 10 = .ok (.invokestatic 358, 3) := dk_184 1 102 (dk_at dksX10_when_0 10 rfl rfl)
theorem dX10_when_13 : decode cX10_when 13 = .ok (.ifCond .ne 9, 3) := dk_154 0 9 (dk_at dksX10_when_0 13 rfl rfl)
theorem dX10_when_16 : decode cX10_when 16 = .ok (.aload_n 0, 1) := dk_42 (dk_at dksX10_when_0 16 rfl rfl)
theorem dX10_when_17 : decode cX10_when 17 = .ok (.iconst 1, 1) := dk_4 (dk_at dksX10_when_0 17 rfl rfl)
theorem dX10_when_18 : decode cX10_when 18 = .ok (.invokevirtual 250, 3) := dk_182 0 250 (dk_at dksX10_when_0 18 rfl rfl)
theorem dX10_when_21 : decode cX10_when 21 = .ok (.ireturn, 1) := dk_172 (dk_at dksX10_when_0 21 rfl rfl)
theorem dX10_when_22 : decode cX10_when 22 = .ok (.aload_n 0, 1) := dk_42 (dk_at dksX10_when_0 22 rfl rfl)
theorem dX10_when_23 : decode cX10_when 23 = .ok (.invokevirtual 402, 3) := dk_182 1 146 (dk_at dksX10_when_1 0 rfl rfl)
theorem dX10_when_26 : decode cX10_when 26 = .ok (.iconst 0, 1) := dk_3 (dk_at dksX10_when_1 3 rfl rfl)
theorem dX10_when_27 : decode cX10_when 27 = .ok (.istore_n 2, 1) := dk_61 (dk_at dksX10_when_1 4 rfl rfl)
theorem dX10_when_28 : decode cX10_when 28 = .ok (.iload_n 2, 1) := dk_28 (dk_at dksX10_when_1 5 rfl rfl)
theorem dX10_when_29 : decode cX10_when 29 = .ok (.sipush 400, 3) := dk_17 1 144 (dk_at dksX10_when_1 6 rfl rfl)
theorem dX10_when_32 : decode cX10_when 32 = .ok (.if_icmp .gt 27, 3) := dk_163 0 27 (dk_at dksX10_when_1 9 rfl rfl)
theorem dX10_when_35 : decode cX10_when 35 = .ok (.aload_n 0, 1) := dk_42 (dk_at dksX10_when_1 12 rfl rfl)
theorem dX10_when_36 : decode cX10_when 36 = .ok (.iload_n 1, 1) := dk_27 (dk_at dksX10_when_1 13 rfl rfl)
theorem dX10_when_37 : decode cX10_when 37 = .ok (.invokevirtual 410, 3) := dk_182 1 154 (dk_at dksX10_when_1 14 rfl rfl)
theorem dX10_when_40 : decode cX10_when 40 = .ok (.ifCond .eq 9, 3) := dk_153 0 9 (dk_at dksX10_when_1 17 rfl rfl)
theorem dX10_when_43 : decode cX10_when 43 = .ok (.aload_n 0, 1) := dk_42 (dk_at dksX10_when_1 20 rfl rfl)
theorem dX10_when_44 : decode cX10_when 44 = .ok (.iload_n 2, 1) := dk_28 (dk_at dksX10_when_1 21 rfl rfl)
theorem dX10_when_45 : decode cX10_when 45 = .ok (.invokevirtual 405, 3) := dk_182 1 149 (dk_at dksX10_when_2 0 rfl rfl)
theorem dX10_when_48 : decode cX10_when 48 = .ok (.ireturn, 1) := dk_172 (dk_at dksX10_when_2 3 rfl rfl)
theorem dX10_when_49 : decode cX10_when 49 = .ok (.aload_n 0, 1) := dk_42 (dk_at dksX10_when_2 4 rfl rfl)
theorem dX10_when_50 : decode cX10_when 50 = .ok (.invokevirtual 349, 3) := dk_182 1 93 (dk_at dksX10_when_2 5 rfl rfl)
theorem dX10_when_53 : decode cX10_when 53 = .ok (.iinc 2 1, 3) := dk_132 2 1 (dk_at dksX10_when_2 8 rfl rfl)
theorem dX10_when_56 : decode cX10_when 56 = .ok (.goto (-28), 3) := dk_167 255 228 (dk_at dksX10_when_2 11 rfl rfl)
theorem dX10_when_59 : decode cX10_when 59 = .ok (.aload_n 0, 1) := dk_42 (dk_at dksX10_when_2 14 rfl rfl)
theorem dX10_when_60 : decode cX10_when 60 = .ok (.iconst (-1), 1) := dk_2 (dk_at dksX10_when_2 15 rfl rfl)
theorem dX10_when_61 : decode cX10_when 61 = .ok (.invokevirtual 405, 3) := dk_182 1 149 (dk_at dksX10_when_2 16 rfl rfl)
theorem dX10_when_64 : decode cX10_when 64 = .ok (.ireturn, 1) := dk_172 (dk_at dksX10_when_2 19 rfl rfl)
abbrev cX10_isOnce : ByteArray := prog_22_method_79_code
def yX10_isOnce : MethodName := ⟨RX10, "isOnce", "(I)Z"⟩
def dkwX10_isOnce_4 : List UInt8 := [16, 12, 46, 42, 180, 0, 88, 16, 12, 46, 164, 0, 7, 4, 167, 0, 4, 3, 172]
abbrev dktX10_isOnce_4 : List UInt8 := dkwX10_isOnce_4 ++ []
def dkwX10_isOnce_3 : List UInt8 := [7, 46, 42, 180, 0, 88, 8, 46, 96, 164, 0, 7, 4, 167, 0, 29, 3, 167, 0, 25, 42, 180, 0, 59]
abbrev dktX10_isOnce_3 : List UInt8 := dkwX10_isOnce_3 ++ dktX10_isOnce_4
def dkwX10_isOnce_2 : List UInt8 := [3, 172, 27, 5, 160, 0, 40, 42, 180, 0, 59, 7, 46, 42, 180, 0, 59, 8, 46, 96, 42, 180, 0, 88]
abbrev dktX10_isOnce_2 : List UInt8 := dkwX10_isOnce_2 ++ dktX10_isOnce_3
def dkwX10_isOnce_1 : List UInt8 := [160, 0, 26, 42, 180, 0, 59, 16, 7, 46, 42, 180, 0, 88, 16, 7, 46, 164, 0, 7, 4, 167, 0, 4]
abbrev dktX10_isOnce_1 : List UInt8 := dkwX10_isOnce_1 ++ dktX10_isOnce_2
def dkwX10_isOnce_0 : List UInt8 := [27, 154, 0, 20, 42, 180, 0, 59, 16, 8, 46, 5, 160, 0, 7, 4, 167, 0, 4, 3, 172, 27, 4]
abbrev dktX10_isOnce_0 : List UInt8 := dkwX10_isOnce_0 ++ dktX10_isOnce_1
theorem dksX10_isOnce_0 : cX10_isOnce.data.toList.drop 0 = dktX10_isOnce_0 := by decide +kernel
theorem dksX10_isOnce_1 : cX10_isOnce.data.toList.drop 23 = dktX10_isOnce_1 := dk_seg dksX10_isOnce_0 23 rfl rfl
theorem dksX10_isOnce_2 : cX10_isOnce.data.toList.drop 47 = dktX10_isOnce_2 := dk_seg dksX10_isOnce_1 24 rfl rfl
theorem dksX10_isOnce_3 : cX10_isOnce.data.toList.drop 71 = dktX10_isOnce_3 := dk_seg dksX10_isOnce_2 24 rfl rfl
theorem dksX10_isOnce_4 : cX10_isOnce.data.toList.drop 95 = dktX10_isOnce_4 := dk_seg dksX10_isOnce_3 24 rfl rfl
theorem dX10_isOnce_0 : decode cX10_isOnce 0 = .ok (.iload_n 1, 1) := dk_27 (dk_at dksX10_isOnce_0 0 rfl rfl)
theorem dX10_isOnce_1 : decode cX10_isOnce 1 = .ok (.ifCond .ne 20, 3) := dk_154 0 20 (dk_at dksX10_isOnce_0 1 rfl rfl)
theorem dX10_isOnce_4 : decode cX10_isOnce 4 = .ok (.aload_n 0, 1) := dk_42 (dk_at dksX10_isOnce_0 4 rfl rfl)
theorem dX10_isOnce_5 : decode cX10_isOnce 5 = .ok (.getfield 59, 3) := dk_180 0 59 (dk_at dksX10_isOnce_0 5 rfl rfl)
theorem dX10_isOnce_8 : decode cX10_isOnce 8 = .ok (.bipush 8, 2) := dk_16 8 (dk_at dksX10_isOnce_0 8 rfl rfl)
theorem dX10_isOnce_10 : decode cX10_isOnce 10 = .ok (.iaload, 1) := dk_46 (dk_at dksX10_isOnce_0 10 rfl rfl)
theorem dX10_isOnce_11 : decode cX10_isOnce 11 = .ok (.iconst 2, 1) := dk_5 (dk_at dksX10_isOnce_0 11 rfl rfl)
theorem dX10_isOnce_12 : decode cX10_isOnce 12 = .ok (.if_icmp .ne 7, 3) := dk_160 0 7 (dk_at dksX10_isOnce_0 12 rfl rfl)
theorem dX10_isOnce_15 : decode cX10_isOnce 15 = .ok (.iconst 1, 1) := dk_4 (dk_at dksX10_isOnce_0 15 rfl rfl)
theorem dX10_isOnce_16 : decode cX10_isOnce 16 = .ok (.goto 4, 3) := dk_167 0 4 (dk_at dksX10_isOnce_0 16 rfl rfl)
theorem dX10_isOnce_19 : decode cX10_isOnce 19 = .ok (.iconst 0, 1) := dk_3 (dk_at dksX10_isOnce_0 19 rfl rfl)
theorem dX10_isOnce_20 : decode cX10_isOnce 20 = .ok (.ireturn, 1) := dk_172 (dk_at dksX10_isOnce_0 20 rfl rfl)
theorem dX10_isOnce_21 : decode cX10_isOnce 21 = .ok (.iload_n 1, 1) := dk_27 (dk_at dksX10_isOnce_0 21 rfl rfl)
theorem dX10_isOnce_22 : decode cX10_isOnce 22 = .ok (.iconst 1, 1) := dk_4 (dk_at dksX10_isOnce_0 22 rfl rfl)
theorem dX10_isOnce_23 : decode cX10_isOnce 23 = .ok (.if_icmp .ne 26, 3) := dk_160 0 26 (dk_at dksX10_isOnce_1 0 rfl rfl)
theorem dX10_isOnce_26 : decode cX10_isOnce 26 = .ok (.aload_n 0, 1) := dk_42 (dk_at dksX10_isOnce_1 3 rfl rfl)
theorem dX10_isOnce_27 : decode cX10_isOnce 27 = .ok (.getfield 59, 3) := dk_180 0 59 (dk_at dksX10_isOnce_1 4 rfl rfl)
theorem dX10_isOnce_30 : decode cX10_isOnce 30 = .ok (.bipush 7, 2) := dk_16 7 (dk_at dksX10_isOnce_1 7 rfl rfl)
theorem dX10_isOnce_32 : decode cX10_isOnce 32 = .ok (.iaload, 1) := dk_46 (dk_at dksX10_isOnce_1 9 rfl rfl)
theorem dX10_isOnce_33 : decode cX10_isOnce 33 = .ok (.aload_n 0, 1) := dk_42 (dk_at dksX10_isOnce_1 10 rfl rfl)
theorem dX10_isOnce_34 : decode cX10_isOnce 34 = .ok (.getfield 88, 3) := dk_180 0 88 (dk_at dksX10_isOnce_1 11 rfl rfl)
theorem dX10_isOnce_37 : decode cX10_isOnce 37 = .ok (.bipush 7, 2) := dk_16 7 (dk_at dksX10_isOnce_1 14 rfl rfl)
theorem dX10_isOnce_39 : decode cX10_isOnce 39 = .ok (.iaload, 1) := dk_46 (dk_at dksX10_isOnce_1 16 rfl rfl)
theorem dX10_isOnce_40 : decode cX10_isOnce 40 = .ok (.if_icmp .le 7, 3) := dk_164 0 7 (dk_at dksX10_isOnce_1 17 rfl rfl)
theorem dX10_isOnce_43 : decode cX10_isOnce 43 = .ok (.iconst 1, 1) := dk_4 (dk_at dksX10_isOnce_1 20 rfl rfl)
theorem dX10_isOnce_44 : decode cX10_isOnce 44 = .ok (.goto 4, 3) := dk_167 0 4 (dk_at dksX10_isOnce_1 21 rfl rfl)
theorem dX10_isOnce_47 : decode cX10_isOnce 47 = .ok (.iconst 0, 1) := dk_3 (dk_at dksX10_isOnce_2 0 rfl rfl)
theorem dX10_isOnce_48 : decode cX10_isOnce 48 = .ok (.ireturn, 1) := dk_172 (dk_at dksX10_isOnce_2 1 rfl rfl)
theorem dX10_isOnce_49 : decode cX10_isOnce 49 = .ok (.iload_n 1, 1) := dk_27 (dk_at dksX10_isOnce_2 2 rfl rfl)
theorem dX10_isOnce_50 : decode cX10_isOnce 50 = .ok (.iconst 2, 1) := dk_5 (dk_at dksX10_isOnce_2 3 rfl rfl)
theorem dX10_isOnce_51 : decode cX10_isOnce 51 = .ok (.if_icmp .ne 40, 3) := dk_160 0 40 (dk_at dksX10_isOnce_2 4 rfl rfl)
theorem dX10_isOnce_54 : decode cX10_isOnce 54 = .ok (.aload_n 0, 1) := dk_42 (dk_at dksX10_isOnce_2 7 rfl rfl)
theorem dX10_isOnce_55 : decode cX10_isOnce 55 = .ok (.getfield 59, 3) := dk_180 0 59 (dk_at dksX10_isOnce_2 8 rfl rfl)
theorem dX10_isOnce_58 : decode cX10_isOnce 58 = .ok (.iconst 4, 1) := dk_7 (dk_at dksX10_isOnce_2 11 rfl rfl)
theorem dX10_isOnce_59 : decode cX10_isOnce 59 = .ok (.iaload, 1) := dk_46 (dk_at dksX10_isOnce_2 12 rfl rfl)
theorem dX10_isOnce_60 : decode cX10_isOnce 60 = .ok (.aload_n 0, 1) := dk_42 (dk_at dksX10_isOnce_2 13 rfl rfl)
theorem dX10_isOnce_61 : decode cX10_isOnce 61 = .ok (.getfield 59, 3) := dk_180 0 59 (dk_at dksX10_isOnce_2 14 rfl rfl)
theorem dX10_isOnce_64 : decode cX10_isOnce 64 = .ok (.iconst 5, 1) := dk_8 (dk_at dksX10_isOnce_2 17 rfl rfl)
theorem dX10_isOnce_65 : decode cX10_isOnce 65 = .ok (.iaload, 1) := dk_46 (dk_at dksX10_isOnce_2 18 rfl rfl)
theorem dX10_isOnce_66 : decode cX10_isOnce 66 = .ok (.iadd, 1) := dk_96 (dk_at dksX10_isOnce_2 19 rfl rfl)
theorem dX10_isOnce_67 : decode cX10_isOnce 67 = .ok (.aload_n 0, 1) := dk_42 (dk_at dksX10_isOnce_2 20 rfl rfl)
theorem dX10_isOnce_68 : decode cX10_isOnce 68 = .ok (.getfield 88, 3) := dk_180 0 88 (dk_at dksX10_isOnce_2 21 rfl rfl)
theorem dX10_isOnce_71 : decode cX10_isOnce 71 = .ok (.iconst 4, 1) := dk_7 (dk_at dksX10_isOnce_3 0 rfl rfl)
theorem dX10_isOnce_72 : decode cX10_isOnce 72 = .ok (.iaload, 1) := dk_46 (dk_at dksX10_isOnce_3 1 rfl rfl)
theorem dX10_isOnce_73 : decode cX10_isOnce 73 = .ok (.aload_n 0, 1) := dk_42 (dk_at dksX10_isOnce_3 2 rfl rfl)
theorem dX10_isOnce_74 : decode cX10_isOnce 74 = .ok (.getfield 88, 3) := dk_180 0 88 (dk_at dksX10_isOnce_3 3 rfl rfl)
theorem dX10_isOnce_77 : decode cX10_isOnce 77 = .ok (.iconst 5, 1) := dk_8 (dk_at dksX10_isOnce_3 6 rfl rfl)
theorem dX10_isOnce_78 : decode cX10_isOnce 78 = .ok (.iaload, 1) := dk_46 (dk_at dksX10_isOnce_3 7 rfl rfl)
theorem dX10_isOnce_79 : decode cX10_isOnce 79 = .ok (.iadd, 1) := dk_96 (dk_at dksX10_isOnce_3 8 rfl rfl)
theorem dX10_isOnce_80 : decode cX10_isOnce 80 = .ok (.if_icmp .le 7, 3) := dk_164 0 7 (dk_at dksX10_isOnce_3 9 rfl rfl)
theorem dX10_isOnce_83 : decode cX10_isOnce 83 = .ok (.iconst 1, 1) := dk_4 (dk_at dksX10_isOnce_3 12 rfl rfl)
theorem dX10_isOnce_84 : decode cX10_isOnce 84 = .ok (.goto 29, 3) := dk_167 0 29 (dk_at dksX10_isOnce_3 13 rfl rfl)
theorem dX10_isOnce_87 : decode cX10_isOnce 87 = .ok (.iconst 0, 1) := dk_3 (dk_at dksX10_isOnce_3 16 rfl rfl)
theorem dX10_isOnce_88 : decode cX10_isOnce 88 = .ok (.goto 25, 3) := dk_167 0 25 (dk_at dksX10_isOnce_3 17 rfl rfl)
theorem dX10_isOnce_91 : decode cX10_isOnce 91 = .ok (.aload_n 0, 1) := dk_42 (dk_at dksX10_isOnce_3 20 rfl rfl)
theorem dX10_isOnce_92 : decode cX10_isOnce 92 = .ok (.getfield 59, 3) := dk_180 0 59 (dk_at dksX10_isOnce_3 21 rfl rfl)
theorem dX10_isOnce_95 : decode cX10_isOnce 95 = .ok (.bipush 12, 2) := dk_16 12 (dk_at dksX10_isOnce_4 0 rfl rfl)
theorem dX10_isOnce_97 : decode cX10_isOnce 97 = .ok (.iaload, 1) := dk_46 (dk_at dksX10_isOnce_4 2 rfl rfl)
theorem dX10_isOnce_98 : decode cX10_isOnce 98 = .ok (.aload_n 0, 1) := dk_42 (dk_at dksX10_isOnce_4 3 rfl rfl)
theorem dX10_isOnce_99 : decode cX10_isOnce 99 = .ok (.getfield 88, 3) := dk_180 0 88 (dk_at dksX10_isOnce_4 4 rfl rfl)
theorem dX10_isOnce_102 : decode cX10_isOnce 102 = .ok (.bipush 12, 2) := dk_16 12 (dk_at dksX10_isOnce_4 7 rfl rfl)
theorem dX10_isOnce_104 : decode cX10_isOnce 104 = .ok (.iaload, 1) := dk_46 (dk_at dksX10_isOnce_4 9 rfl rfl)
theorem dX10_isOnce_105 : decode cX10_isOnce 105 = .ok (.if_icmp .le 7, 3) := dk_164 0 7 (dk_at dksX10_isOnce_4 10 rfl rfl)
theorem dX10_isOnce_108 : decode cX10_isOnce 108 = .ok (.iconst 1, 1) := dk_4 (dk_at dksX10_isOnce_4 13 rfl rfl)
theorem dX10_isOnce_109 : decode cX10_isOnce 109 = .ok (.goto 4, 3) := dk_167 0 4 (dk_at dksX10_isOnce_4 14 rfl rfl)
theorem dX10_isOnce_112 : decode cX10_isOnce 112 = .ok (.iconst 0, 1) := dk_3 (dk_at dksX10_isOnce_4 17 rfl rfl)
theorem dX10_isOnce_113 : decode cX10_isOnce 113 = .ok (.ireturn, 1) := dk_172 (dk_at dksX10_isOnce_4 18 rfl rfl)
abbrev cX10_settles : ByteArray := prog_22_method_82_code
def yX10_settles : MethodName := ⟨RX10, "settles", "()I"⟩
def dkwX10_settles_5 : List UInt8 := [42, 2, 182, 1, 149, 172]
abbrev dktX10_settles_5 : List UInt8 := dkwX10_settles_5 ++ []
def dkwX10_settles_4 : List UInt8 := [28, 16, 40, 100, 46, 4, 160, 0, 12, 42, 28, 16, 40, 100, 182, 1, 149, 172, 132, 2, 1, 167, 255, 177]
abbrev dktX10_settles_4 : List UInt8 := dkwX10_settles_4 ++ dktX10_settles_5
def dkwX10_settles_3 : List UInt8 := [182, 1, 160, 153, 0, 9, 27, 4, 96, 167, 0, 4, 3, 60, 27, 16, 40, 161, 0, 25, 42, 180, 0, 91]
abbrev dktX10_settles_3 : List UInt8 := dkwX10_settles_3 ++ dktX10_settles_4
def dkwX10_settles_2 : List UInt8 := [180, 0, 91, 28, 42, 180, 0, 59, 16, 8, 46, 5, 160, 0, 7, 4, 167, 0, 4, 3, 79, 42]
abbrev dktX10_settles_2 : List UInt8 := dkwX10_settles_2 ++ dktX10_settles_3
def dkwX10_settles_1 : List UInt8 := [4, 167, 0, 4, 3, 79, 3, 60, 4, 61, 28, 17, 1, 184, 163, 0, 78, 42, 182, 1, 93, 42]
abbrev dktX10_settles_1 : List UInt8 := dkwX10_settles_1 ++ dktX10_settles_2
def dkwX10_settles_0 : List UInt8 := [42, 182, 0, 247, 42, 182, 1, 146, 42, 180, 0, 91, 3, 42, 180, 0, 59, 16, 8, 46, 5, 160, 0, 7]
abbrev dktX10_settles_0 : List UInt8 := dkwX10_settles_0 ++ dktX10_settles_1
theorem dksX10_settles_0 : cX10_settles.data.toList.drop 0 = dktX10_settles_0 := by decide +kernel
theorem dksX10_settles_1 : cX10_settles.data.toList.drop 24 = dktX10_settles_1 := dk_seg dksX10_settles_0 24 rfl rfl
theorem dksX10_settles_2 : cX10_settles.data.toList.drop 46 = dktX10_settles_2 := dk_seg dksX10_settles_1 22 rfl rfl
theorem dksX10_settles_3 : cX10_settles.data.toList.drop 68 = dktX10_settles_3 := dk_seg dksX10_settles_2 22 rfl rfl
theorem dksX10_settles_4 : cX10_settles.data.toList.drop 92 = dktX10_settles_4 := dk_seg dksX10_settles_3 24 rfl rfl
theorem dksX10_settles_5 : cX10_settles.data.toList.drop 116 = dktX10_settles_5 := dk_seg dksX10_settles_4 24 rfl rfl
theorem dX10_settles_0 : decode cX10_settles 0 = .ok (.aload_n 0, 1) := dk_42 (dk_at dksX10_settles_0 0 rfl rfl)
theorem dX10_settles_1 : decode cX10_settles 1 = .ok (.invokevirtual 247, 3) := dk_182 0 247 (dk_at dksX10_settles_0 1 rfl rfl)
theorem dX10_settles_4 : decode cX10_settles 4 = .ok (.aload_n 0, 1) := dk_42 (dk_at dksX10_settles_0 4 rfl rfl)
theorem dX10_settles_5 : decode cX10_settles 5 = .ok (.invokevirtual 402, 3) := dk_182 1 146 (dk_at dksX10_settles_0 5 rfl rfl)
theorem dX10_settles_8 : decode cX10_settles 8 = .ok (.aload_n 0, 1) := dk_42 (dk_at dksX10_settles_0 8 rfl rfl)
theorem dX10_settles_9 : decode cX10_settles 9 = .ok (.getfield 91, 3) := dk_180 0 91 (dk_at dksX10_settles_0 9 rfl rfl)
theorem dX10_settles_12 : decode cX10_settles 12 = .ok (.iconst 0, 1) := dk_3 (dk_at dksX10_settles_0 12 rfl rfl)
theorem dX10_settles_13 : decode cX10_settles 13 = .ok (.aload_n 0, 1) := dk_42 (dk_at dksX10_settles_0 13 rfl rfl)
theorem dX10_settles_14 : decode cX10_settles 14 = .ok (.getfield 59, 3) := dk_180 0 59 (dk_at dksX10_settles_0 14 rfl rfl)
theorem dX10_settles_17 : decode cX10_settles 17 = .ok (.bipush 8, 2) := dk_16 8 (dk_at dksX10_settles_0 17 rfl rfl)
theorem dX10_settles_19 : decode cX10_settles 19 = .ok (.iaload, 1) := dk_46 (dk_at dksX10_settles_0 19 rfl rfl)
theorem dX10_settles_20 : decode cX10_settles 20 = .ok (.iconst 2, 1) := dk_5 (dk_at dksX10_settles_0 20 rfl rfl)
theorem dX10_settles_21 : decode cX10_settles 21 = .ok (.if_icmp .ne 7, 3) := dk_160 0 7 (dk_at dksX10_settles_0 21 rfl rfl)
theorem dX10_settles_24 : decode cX10_settles 24 = .ok (.iconst 1, 1) := dk_4 (dk_at dksX10_settles_1 0 rfl rfl)
theorem dX10_settles_25 : decode cX10_settles 25 = .ok (.goto 4, 3) := dk_167 0 4 (dk_at dksX10_settles_1 1 rfl rfl)
theorem dX10_settles_28 : decode cX10_settles 28 = .ok (.iconst 0, 1) := dk_3 (dk_at dksX10_settles_1 4 rfl rfl)
theorem dX10_settles_29 : decode cX10_settles 29 = .ok (.iastore, 1) := dk_79 (dk_at dksX10_settles_1 5 rfl rfl)
theorem dX10_settles_30 : decode cX10_settles 30 = .ok (.iconst 0, 1) := dk_3 (dk_at dksX10_settles_1 6 rfl rfl)
theorem dX10_settles_31 : decode cX10_settles 31 = .ok (.istore_n 1, 1) := dk_60 (dk_at dksX10_settles_1 7 rfl rfl)
theorem dX10_settles_32 : decode cX10_settles 32 = .ok (.iconst 1, 1) := dk_4 (dk_at dksX10_settles_1 8 rfl rfl)
theorem dX10_settles_33 : decode cX10_settles 33 = .ok (.istore_n 2, 1) := dk_61 (dk_at dksX10_settles_1 9 rfl rfl)
theorem dX10_settles_34 : decode cX10_settles 34 = .ok (.iload_n 2, 1) := dk_28 (dk_at dksX10_settles_1 10 rfl rfl)
theorem dX10_settles_35 : decode cX10_settles 35 = .ok (.sipush 440, 3) := dk_17 1 184 (dk_at dksX10_settles_1 11 rfl rfl)
theorem dX10_settles_38 : decode cX10_settles 38 = .ok (.if_icmp .gt 78, 3) := dk_163 0 78 (dk_at dksX10_settles_1 14 rfl rfl)
theorem dX10_settles_41 : decode cX10_settles 41 = .ok (.aload_n 0, 1) := dk_42 (dk_at dksX10_settles_1 17 rfl rfl)
theorem dX10_settles_42 : decode cX10_settles 42 = .ok (.invokevirtual 349, 3) := dk_182 1 93 (dk_at dksX10_settles_1 18 rfl rfl)
theorem dX10_settles_45 : decode cX10_settles 45 = .ok (.aload_n 0, 1) := dk_42 (dk_at dksX10_settles_1 21 rfl rfl)
theorem dX10_settles_46 : decode cX10_settles 46 = .ok (.getfield 91, 3) := dk_180 0 91 (dk_at dksX10_settles_2 0 rfl rfl)
theorem dX10_settles_49 : decode cX10_settles 49 = .ok (.iload_n 2, 1) := dk_28 (dk_at dksX10_settles_2 3 rfl rfl)
theorem dX10_settles_50 : decode cX10_settles 50 = .ok (.aload_n 0, 1) := dk_42 (dk_at dksX10_settles_2 4 rfl rfl)
theorem dX10_settles_51 : decode cX10_settles 51 = .ok (.getfield 59, 3) := dk_180 0 59 (dk_at dksX10_settles_2 5 rfl rfl)
theorem dX10_settles_54 : decode cX10_settles 54 = .ok (.bipush 8, 2) := dk_16 8 (dk_at dksX10_settles_2 8 rfl rfl)
theorem dX10_settles_56 : decode cX10_settles 56 = .ok (.iaload, 1) := dk_46 (dk_at dksX10_settles_2 10 rfl rfl)
theorem dX10_settles_57 : decode cX10_settles 57 = .ok (.iconst 2, 1) := dk_5 (dk_at dksX10_settles_2 11 rfl rfl)
theorem dX10_settles_58 : decode cX10_settles 58 = .ok (.if_icmp .ne 7, 3) := dk_160 0 7 (dk_at dksX10_settles_2 12 rfl rfl)
theorem dX10_settles_61 : decode cX10_settles 61 = .ok (.iconst 1, 1) := dk_4 (dk_at dksX10_settles_2 15 rfl rfl)
theorem dX10_settles_62 : decode cX10_settles 62 = .ok (.goto 4, 3) := dk_167 0 4 (dk_at dksX10_settles_2 16 rfl rfl)
theorem dX10_settles_65 : decode cX10_settles 65 = .ok (.iconst 0, 1) := dk_3 (dk_at dksX10_settles_2 19 rfl rfl)
theorem dX10_settles_66 : decode cX10_settles 66 = .ok (.iastore, 1) := dk_79 (dk_at dksX10_settles_2 20 rfl rfl)
theorem dX10_settles_67 : decode cX10_settles 67 = .ok (.aload_n 0, 1) := dk_42 (dk_at dksX10_settles_2 21 rfl rfl)
theorem dX10_settles_68 : decode cX10_settles 68 = .ok (.invokevirtual 416, 3) := dk_182 1 160 (dk_at dksX10_settles_3 0 rfl rfl)
theorem dX10_settles_71 : decode cX10_settles 71 = .ok (.ifCond .eq 9, 3) := dk_153 0 9 (dk_at dksX10_settles_3 3 rfl rfl)
theorem dX10_settles_74 : decode cX10_settles 74 = .ok (.iload_n 1, 1) := dk_27 (dk_at dksX10_settles_3 6 rfl rfl)
theorem dX10_settles_75 : decode cX10_settles 75 = .ok (.iconst 1, 1) := dk_4 (dk_at dksX10_settles_3 7 rfl rfl)
theorem dX10_settles_76 : decode cX10_settles 76 = .ok (.iadd, 1) := dk_96 (dk_at dksX10_settles_3 8 rfl rfl)
theorem dX10_settles_77 : decode cX10_settles 77 = .ok (.goto 4, 3) := dk_167 0 4 (dk_at dksX10_settles_3 9 rfl rfl)
theorem dX10_settles_80 : decode cX10_settles 80 = .ok (.iconst 0, 1) := dk_3 (dk_at dksX10_settles_3 12 rfl rfl)
theorem dX10_settles_81 : decode cX10_settles 81 = .ok (.istore_n 1, 1) := dk_60 (dk_at dksX10_settles_3 13 rfl rfl)
theorem dX10_settles_82 : decode cX10_settles 82 = .ok (.iload_n 1, 1) := dk_27 (dk_at dksX10_settles_3 14 rfl rfl)
theorem dX10_settles_83 : decode cX10_settles 83 = .ok (.bipush 40, 2) := dk_16 40 (dk_at dksX10_settles_3 15 rfl rfl)
theorem dX10_settles_85 : decode cX10_settles 85 = .ok (.if_icmp .lt 25, 3) := dk_161 0 25 (dk_at dksX10_settles_3 17 rfl rfl)
theorem dX10_settles_88 : decode cX10_settles 88 = .ok (.aload_n 0, 1) := dk_42 (dk_at dksX10_settles_3 20 rfl rfl)
theorem dX10_settles_89 : decode cX10_settles 89 = .ok (.getfield 91, 3) := dk_180 0 91 (dk_at dksX10_settles_3 21 rfl rfl)
theorem dX10_settles_92 : decode cX10_settles 92 = .ok (.iload_n 2, 1) := dk_28 (dk_at dksX10_settles_4 0 rfl rfl)
theorem dX10_settles_93 : decode cX10_settles 93 = .ok (.bipush 40, 2) := dk_16 40 (dk_at dksX10_settles_4 1 rfl rfl)
theorem dX10_settles_95 : decode cX10_settles 95 = .ok (.isub, 1) := dk_100 (dk_at dksX10_settles_4 3 rfl rfl)
theorem dX10_settles_96 : decode cX10_settles 96 = .ok (.iaload, 1) := dk_46 (dk_at dksX10_settles_4 4 rfl rfl)
theorem dX10_settles_97 : decode cX10_settles 97 = .ok (.iconst 1, 1) := dk_4 (dk_at dksX10_settles_4 5 rfl rfl)
theorem dX10_settles_98 : decode cX10_settles 98 = .ok (.if_icmp .ne 12, 3) := dk_160 0 12 (dk_at dksX10_settles_4 6 rfl rfl)
theorem dX10_settles_101 : decode cX10_settles 101 = .ok (.aload_n 0, 1) := dk_42 (dk_at dksX10_settles_4 9 rfl rfl)
theorem dX10_settles_102 : decode cX10_settles 102 = .ok (.iload_n 2, 1) := dk_28 (dk_at dksX10_settles_4 10 rfl rfl)
theorem dX10_settles_103 : decode cX10_settles 103 = .ok (.bipush 40, 2) := dk_16 40 (dk_at dksX10_settles_4 11 rfl rfl)
theorem dX10_settles_105 : decode cX10_settles 105 = .ok (.isub, 1) := dk_100 (dk_at dksX10_settles_4 13 rfl rfl)
theorem dX10_settles_106 : decode cX10_settles 106 = .ok (.invokevirtual 405, 3) := dk_182 1 149 (dk_at dksX10_settles_4 14 rfl rfl)
theorem dX10_settles_109 : decode cX10_settles 109 = .ok (.ireturn, 1) := dk_172 (dk_at dksX10_settles_4 17 rfl rfl)
theorem dX10_settles_110 : decode cX10_settles 110 = .ok (.iinc 2 1, 3) := dk_132 2 1 (dk_at dksX10_settles_4 18 rfl rfl)
theorem dX10_settles_113 : decode cX10_settles 113 = .ok (.goto (-79), 3) := dk_167 255 177 (dk_at dksX10_settles_4 21 rfl rfl)
theorem dX10_settles_116 : decode cX10_settles 116 = .ok (.aload_n 0, 1) := dk_42 (dk_at dksX10_settles_5 0 rfl rfl)
theorem dX10_settles_117 : decode cX10_settles 117 = .ok (.iconst (-1), 1) := dk_2 (dk_at dksX10_settles_5 1 rfl rfl)
theorem dX10_settles_118 : decode cX10_settles 118 = .ok (.invokevirtual 405, 3) := dk_182 1 149 (dk_at dksX10_settles_5 2 rfl rfl)
theorem dX10_settles_121 : decode cX10_settles 121 = .ok (.ireturn, 1) := dk_172 (dk_at dksX10_settles_5 5 rfl rfl)
abbrev cX10_isNear : ByteArray := prog_22_method_81_code
def yX10_isNear : MethodName := ⟨RX10, "isNear", "()Z"⟩
def dkwX10_isNear_1 : List UInt8 := [172]
abbrev dktX10_isNear_1 : List UInt8 := dkwX10_isNear_1 ++ []
def dkwX10_isNear_0 : List UInt8 := [42, 182, 1, 69, 42, 180, 0, 59, 16, 29, 46, 100, 184, 1, 157, 5, 163, 0, 7, 4, 167, 0, 4, 3]
abbrev dktX10_isNear_0 : List UInt8 := dkwX10_isNear_0 ++ dktX10_isNear_1
theorem dksX10_isNear_0 : cX10_isNear.data.toList.drop 0 = dktX10_isNear_0 := by decide +kernel
theorem dksX10_isNear_1 : cX10_isNear.data.toList.drop 24 = dktX10_isNear_1 := dk_seg dksX10_isNear_0 24 rfl rfl
theorem dX10_isNear_0 : decode cX10_isNear 0 = .ok (.aload_n 0, 1) := dk_42 (dk_at dksX10_isNear_0 0 rfl rfl)
theorem dX10_isNear_1 : decode cX10_isNear 1 = .ok (.invokevirtual 325, 3) := dk_182 1 69 (dk_at dksX10_isNear_0 1 rfl rfl)
theorem dX10_isNear_4 : decode cX10_isNear 4 = .ok (.aload_n 0, 1) := dk_42 (dk_at dksX10_isNear_0 4 rfl rfl)
theorem dX10_isNear_5 : decode cX10_isNear 5 = .ok (.getfield 59, 3) := dk_180 0 59 (dk_at dksX10_isNear_0 5 rfl rfl)
theorem dX10_isNear_8 : decode cX10_isNear 8 = .ok (.bipush 29, 2) := dk_16 29 (dk_at dksX10_isNear_0 8 rfl rfl)
theorem dX10_isNear_10 : decode cX10_isNear 10 = .ok (.iaload, 1) := dk_46 (dk_at dksX10_isNear_0 10 rfl rfl)
theorem dX10_isNear_11 : decode cX10_isNear 11 = .ok (.isub, 1) := dk_100 (dk_at dksX10_isNear_0 11 rfl rfl)
theorem dX10_isNear_12 : decode cX10_isNear 12 = .ok (.invokestatic 413, 3) := dk_184 1 157 (dk_at dksX10_isNear_0 12 rfl rfl)
theorem dX10_isNear_15 : decode cX10_isNear 15 = .ok (.iconst 2, 1) := dk_5 (dk_at dksX10_isNear_0 15 rfl rfl)
theorem dX10_isNear_16 : decode cX10_isNear 16 = .ok (.if_icmp .gt 7, 3) := dk_163 0 7 (dk_at dksX10_isNear_0 16 rfl rfl)
theorem dX10_isNear_19 : decode cX10_isNear 19 = .ok (.iconst 1, 1) := dk_4 (dk_at dksX10_isNear_0 19 rfl rfl)
theorem dX10_isNear_20 : decode cX10_isNear 20 = .ok (.goto 4, 3) := dk_167 0 4 (dk_at dksX10_isNear_0 20 rfl rfl)
theorem dX10_isNear_23 : decode cX10_isNear 23 = .ok (.iconst 0, 1) := dk_3 (dk_at dksX10_isNear_0 23 rfl rfl)
theorem dX10_isNear_24 : decode cX10_isNear 24 = .ok (.ireturn, 1) := dk_172 (dk_at dksX10_isNear_1 0 rfl rfl)
abbrev cX10_toAim : ByteArray := prog_22_method_84_code
def yX10_toAim : MethodName := ⟨RX10, "toAim", "(II)I"⟩
def dkwX10_toAim_5 : List UInt8 := [180, 1, 166, 172]
abbrev dktX10_toAim_5 : List UInt8 := dkwX10_toAim_5 ++ []
def dkwX10_toAim_4 : List UInt8 := [21, 4, 182, 1, 169, 132, 3, 1, 167, 255, 204, 28, 154, 0, 10, 42, 180, 1, 163, 167, 0, 7, 42]
abbrev dktX10_toAim_4 : List UInt8 := dkwX10_toAim_4 ++ dktX10_toAim_5
def dkwX10_toAim_3 : List UInt8 := [180, 0, 59, 16, 7, 46, 42, 180, 0, 88, 16, 7, 46, 100, 54, 4, 42, 3, 182, 1, 149, 87, 42, 29]
abbrev dktX10_toAim_3 : List UInt8 := dkwX10_toAim_3 ++ dktX10_toAim_4
def dkwX10_toAim_2 : List UInt8 := [4, 62, 29, 16, 64, 163, 0, 52, 42, 180, 0, 59, 16, 29, 29, 79, 42, 27, 182, 1, 131, 42]
abbrev dktX10_toAim_2 : List UInt8 := dkwX10_toAim_2 ++ dktX10_toAim_3
def dkwX10_toAim_1 : List UInt8 := [20, 1, 144, 184, 1, 102, 154, 0, 9, 42, 5, 182, 0, 250, 172, 42, 2, 181, 1, 163, 42, 182, 1, 146]
abbrev dktX10_toAim_1 : List UInt8 := dkwX10_toAim_1 ++ dktX10_toAim_2
def dkwX10_toAim_0 : List UInt8 := [42, 182, 0, 247, 28, 133, 9, 10, 184, 1, 102, 154, 0, 9, 42, 4, 182, 0, 250, 172, 27, 133, 10]
abbrev dktX10_toAim_0 : List UInt8 := dkwX10_toAim_0 ++ dktX10_toAim_1
theorem dksX10_toAim_0 : cX10_toAim.data.toList.drop 0 = dktX10_toAim_0 := by decide +kernel
theorem dksX10_toAim_1 : cX10_toAim.data.toList.drop 23 = dktX10_toAim_1 := dk_seg dksX10_toAim_0 23 rfl rfl
theorem dksX10_toAim_2 : cX10_toAim.data.toList.drop 47 = dktX10_toAim_2 := dk_seg dksX10_toAim_1 24 rfl rfl
theorem dksX10_toAim_3 : cX10_toAim.data.toList.drop 69 = dktX10_toAim_3 := dk_seg dksX10_toAim_2 22 rfl rfl
theorem dksX10_toAim_4 : cX10_toAim.data.toList.drop 93 = dktX10_toAim_4 := dk_seg dksX10_toAim_3 24 rfl rfl
theorem dksX10_toAim_5 : cX10_toAim.data.toList.drop 116 = dktX10_toAim_5 := dk_seg dksX10_toAim_4 23 rfl rfl
theorem dX10_toAim_0 : decode cX10_toAim 0 = .ok (.aload_n 0, 1) := dk_42 (dk_at dksX10_toAim_0 0 rfl rfl)
theorem dX10_toAim_1 : decode cX10_toAim 1 = .ok (.invokevirtual 247, 3) := dk_182 0 247 (dk_at dksX10_toAim_0 1 rfl rfl)
theorem dX10_toAim_4 : decode cX10_toAim 4 = .ok (.iload_n 2, 1) := dk_28 (dk_at dksX10_toAim_0 4 rfl rfl)
theorem dX10_toAim_5 : decode cX10_toAim 5 = .ok (.i2l, 1) := dk_133 (dk_at dksX10_toAim_0 5 rfl rfl)
theorem dX10_toAim_6 : decode cX10_toAim 6 = .ok (.lconst 0, 1) := dk_9 (dk_at dksX10_toAim_0 6 rfl rfl)
theorem dX10_toAim_7 : decode cX10_toAim 7 = .ok (.lconst 1, 1) := dk_10 (dk_at dksX10_toAim_0 7 rfl rfl)
theorem dX10_toAim_8 : decode cX10_toAim 8 = .ok (.invokestatic 358, 3) := dk_184 1 102 (dk_at dksX10_toAim_0 8 rfl rfl)
theorem dX10_toAim_11 : decode cX10_toAim 11 = .ok (.ifCond .ne 9, 3) := dk_154 0 9 (dk_at dksX10_toAim_0 11 rfl rfl)
theorem dX10_toAim_14 : decode cX10_toAim 14 = .ok (.aload_n 0, 1) := dk_42 (dk_at dksX10_toAim_0 14 rfl rfl)
theorem dX10_toAim_15 : decode cX10_toAim 15 = .ok (.iconst 1, 1) := dk_4 (dk_at dksX10_toAim_0 15 rfl rfl)
theorem dX10_toAim_16 : decode cX10_toAim 16 = .ok (.invokevirtual 250, 3) := dk_182 0 250 (dk_at dksX10_toAim_0 16 rfl rfl)
theorem dX10_toAim_19 : decode cX10_toAim 19 = .ok (.ireturn, 1) := dk_172 (dk_at dksX10_toAim_0 19 rfl rfl)
theorem dX10_toAim_20 : decode cX10_toAim 20 = .ok (.iload_n 1, 1) := dk_27 (dk_at dksX10_toAim_0 20 rfl rfl)
theorem dX10_toAim_21 : decode cX10_toAim 21 = .ok (.i2l, 1) := dk_133 (dk_at dksX10_toAim_0 21 rfl rfl)
theorem dX10_toAim_22 : decode cX10_toAim 22 = .ok (.lconst 1, 1) := dk_10 (dk_at dksX10_toAim_0 22 rfl rfl)
theorem dX10_toAim_23 : decode cX10_toAim 23 = .ok (.ldc2_w 400, 3) := dk_20 1 144 (dk_at dksX10_toAim_1 0 rfl rfl)
theorem dX10_toAim_26 : decode cX10_toAim 26 = .ok (.invokestatic 358, 3) := dk_184 1 102 (dk_at dksX10_toAim_1 3 rfl rfl)
theorem dX10_toAim_29 : decode cX10_toAim 29 = .ok (.ifCond .ne 9, 3) := dk_154 0 9 (dk_at dksX10_toAim_1 6 rfl rfl)
theorem dX10_toAim_32 : decode cX10_toAim 32 = .ok (.aload_n 0, 1) := dk_42 (dk_at dksX10_toAim_1 9 rfl rfl)
theorem dX10_toAim_33 : decode cX10_toAim 33 = .ok (.iconst 2, 1) := dk_5 (dk_at dksX10_toAim_1 10 rfl rfl)
theorem dX10_toAim_34 : decode cX10_toAim 34 = .ok (.invokevirtual 250, 3) := dk_182 0 250 (dk_at dksX10_toAim_1 11 rfl rfl)
theorem dX10_toAim_37 : decode cX10_toAim 37 = .ok (.ireturn, 1) := dk_172 (dk_at dksX10_toAim_1 14 rfl rfl)
theorem dX10_toAim_38 : decode cX10_toAim 38 = .ok (.aload_n 0, 1) := dk_42 (dk_at dksX10_toAim_1 15 rfl rfl)
theorem dX10_toAim_39 : decode cX10_toAim 39 = .ok (.iconst (-1), 1) := dk_2 (dk_at dksX10_toAim_1 16 rfl rfl)
theorem dX10_toAim_40 : decode cX10_toAim 40 = .ok (.putfield 419, 3) := dk_181 1 163 (dk_at dksX10_toAim_1 17 rfl rfl)
theorem dX10_toAim_43 : decode cX10_toAim 43 = .ok (.aload_n 0, 1) := dk_42 (dk_at dksX10_toAim_1 20 rfl rfl)
theorem dX10_toAim_44 : decode cX10_toAim 44 = .ok (.invokevirtual 402, 3) := dk_182 1 146 (dk_at dksX10_toAim_1 21 rfl rfl)
theorem dX10_toAim_47 : decode cX10_toAim 47 = .ok (.iconst 1, 1) := dk_4 (dk_at dksX10_toAim_2 0 rfl rfl)
theorem dX10_toAim_48 : decode cX10_toAim 48 = .ok (.istore_n 3, 1) := dk_62 (dk_at dksX10_toAim_2 1 rfl rfl)
theorem dX10_toAim_49 : decode cX10_toAim 49 = .ok (.iload_n 3, 1) := dk_29 (dk_at dksX10_toAim_2 2 rfl rfl)
theorem dX10_toAim_50 : decode cX10_toAim 50 = .ok (.bipush 64, 2) := dk_16 64 (dk_at dksX10_toAim_2 3 rfl rfl)
theorem dX10_toAim_52 : decode cX10_toAim 52 = .ok (.if_icmp .gt 52, 3) := dk_163 0 52 (dk_at dksX10_toAim_2 5 rfl rfl)
theorem dX10_toAim_55 : decode cX10_toAim 55 = .ok (.aload_n 0, 1) := dk_42 (dk_at dksX10_toAim_2 8 rfl rfl)
theorem dX10_toAim_56 : decode cX10_toAim 56 = .ok (.getfield 59, 3) := dk_180 0 59 (dk_at dksX10_toAim_2 9 rfl rfl)
theorem dX10_toAim_59 : decode cX10_toAim 59 = .ok (.bipush 29, 2) := dk_16 29 (dk_at dksX10_toAim_2 12 rfl rfl)
theorem dX10_toAim_61 : decode cX10_toAim 61 = .ok (.iload_n 3, 1) := dk_29 (dk_at dksX10_toAim_2 14 rfl rfl)
theorem dX10_toAim_62 : decode cX10_toAim 62 = .ok (.iastore, 1) := dk_79 (dk_at dksX10_toAim_2 15 rfl rfl)
theorem dX10_toAim_63 : decode cX10_toAim 63 = .ok (.aload_n 0, 1) := dk_42 (dk_at dksX10_toAim_2 16 rfl rfl)
theorem dX10_toAim_64 : decode cX10_toAim 64 = .ok (.iload_n 1, 1) := dk_27 (dk_at dksX10_toAim_2 17 rfl rfl)
theorem dX10_toAim_65 : decode cX10_toAim 65 = .ok (.invokevirtual 387, 3) := dk_182 1 131 (dk_at dksX10_toAim_2 18 rfl rfl)
theorem dX10_toAim_68 : decode cX10_toAim 68 = .ok (.aload_n 0, 1) := dk_42 (dk_at dksX10_toAim_2 21 rfl rfl)
theorem dX10_toAim_69 : decode cX10_toAim 69 = .ok (.getfield 59, 3) := dk_180 0 59 (dk_at dksX10_toAim_3 0 rfl rfl)
theorem dX10_toAim_72 : decode cX10_toAim 72 = .ok (.bipush 7, 2) := dk_16 7 (dk_at dksX10_toAim_3 3 rfl rfl)
theorem dX10_toAim_74 : decode cX10_toAim 74 = .ok (.iaload, 1) := dk_46 (dk_at dksX10_toAim_3 5 rfl rfl)
theorem dX10_toAim_75 : decode cX10_toAim 75 = .ok (.aload_n 0, 1) := dk_42 (dk_at dksX10_toAim_3 6 rfl rfl)
theorem dX10_toAim_76 : decode cX10_toAim 76 = .ok (.getfield 88, 3) := dk_180 0 88 (dk_at dksX10_toAim_3 7 rfl rfl)
theorem dX10_toAim_79 : decode cX10_toAim 79 = .ok (.bipush 7, 2) := dk_16 7 (dk_at dksX10_toAim_3 10 rfl rfl)
theorem dX10_toAim_81 : decode cX10_toAim 81 = .ok (.iaload, 1) := dk_46 (dk_at dksX10_toAim_3 12 rfl rfl)
theorem dX10_toAim_82 : decode cX10_toAim 82 = .ok (.isub, 1) := dk_100 (dk_at dksX10_toAim_3 13 rfl rfl)
theorem dX10_toAim_83 : decode cX10_toAim 83 = .ok (.istore 4, 2) := dk_54 4 (dk_at dksX10_toAim_3 14 rfl rfl)
theorem dX10_toAim_85 : decode cX10_toAim 85 = .ok (.aload_n 0, 1) := dk_42 (dk_at dksX10_toAim_3 16 rfl rfl)
theorem dX10_toAim_86 : decode cX10_toAim 86 = .ok (.iconst 0, 1) := dk_3 (dk_at dksX10_toAim_3 17 rfl rfl)
theorem dX10_toAim_87 : decode cX10_toAim 87 = .ok (.invokevirtual 405, 3) := dk_182 1 149 (dk_at dksX10_toAim_3 18 rfl rfl)
theorem dX10_toAim_90 : decode cX10_toAim 90 = .ok (.pop, 1) := dk_87 (dk_at dksX10_toAim_3 21 rfl rfl)
theorem dX10_toAim_91 : decode cX10_toAim 91 = .ok (.aload_n 0, 1) := dk_42 (dk_at dksX10_toAim_3 22 rfl rfl)
theorem dX10_toAim_92 : decode cX10_toAim 92 = .ok (.iload_n 3, 1) := dk_29 (dk_at dksX10_toAim_3 23 rfl rfl)
theorem dX10_toAim_93 : decode cX10_toAim 93 = .ok (.iload 4, 2) := dk_21 4 (dk_at dksX10_toAim_4 0 rfl rfl)
theorem dX10_toAim_95 : decode cX10_toAim 95 = .ok (.invokevirtual 425, 3) := dk_182 1 169 (dk_at dksX10_toAim_4 2 rfl rfl)
theorem dX10_toAim_98 : decode cX10_toAim 98 = .ok (.iinc 3 1, 3) := dk_132 3 1 (dk_at dksX10_toAim_4 5 rfl rfl)
theorem dX10_toAim_101 : decode cX10_toAim 101 = .ok (.goto (-52), 3) := dk_167 255 204 (dk_at dksX10_toAim_4 8 rfl rfl)
theorem dX10_toAim_104 : decode cX10_toAim 104 = .ok (.iload_n 2, 1) := dk_28 (dk_at dksX10_toAim_4 11 rfl rfl)
theorem dX10_toAim_105 : decode cX10_toAim 105 = .ok (.ifCond .ne 10, 3) := dk_154 0 10 (dk_at dksX10_toAim_4 12 rfl rfl)
theorem dX10_toAim_108 : decode cX10_toAim 108 = .ok (.aload_n 0, 1) := dk_42 (dk_at dksX10_toAim_4 15 rfl rfl)
theorem dX10_toAim_109 : decode cX10_toAim 109 = .ok (.getfield 419, 3) := dk_180 1 163 (dk_at dksX10_toAim_4 16 rfl rfl)
theorem dX10_toAim_112 : decode cX10_toAim 112 = .ok (.goto 7, 3) := dk_167 0 7 (dk_at dksX10_toAim_4 19 rfl rfl)
theorem dX10_toAim_115 : decode cX10_toAim 115 = .ok (.aload_n 0, 1) := dk_42 (dk_at dksX10_toAim_4 22 rfl rfl)
theorem dX10_toAim_116 : decode cX10_toAim 116 = .ok (.getfield 422, 3) := dk_180 1 166 (dk_at dksX10_toAim_5 0 rfl rfl)
theorem dX10_toAim_119 : decode cX10_toAim 119 = .ok (.ireturn, 1) := dk_172 (dk_at dksX10_toAim_5 3 rfl rfl)
abbrev cX10_tryBest : ByteArray := prog_22_method_83_code
def yX10_tryBest : MethodName := ⟨RX10, "tryBest", "(II)V"⟩
def dkwX10_tryBest_1 : List UInt8 := [181, 1, 163, 42, 28, 181, 1, 166, 177]
abbrev dktX10_tryBest_1 : List UInt8 := dkwX10_tryBest_1 ++ []
def dkwX10_tryBest_0 : List UInt8 := [28, 2, 159, 0, 19, 42, 180, 1, 163, 2, 159, 0, 12, 28, 42, 180, 1, 166, 161, 0, 4, 177, 42, 27]
abbrev dktX10_tryBest_0 : List UInt8 := dkwX10_tryBest_0 ++ dktX10_tryBest_1
theorem dksX10_tryBest_0 : cX10_tryBest.data.toList.drop 0 = dktX10_tryBest_0 := by decide +kernel
theorem dksX10_tryBest_1 : cX10_tryBest.data.toList.drop 24 = dktX10_tryBest_1 := dk_seg dksX10_tryBest_0 24 rfl rfl
theorem dX10_tryBest_0 : decode cX10_tryBest 0 = .ok (.iload_n 2, 1) := dk_28 (dk_at dksX10_tryBest_0 0 rfl rfl)
theorem dX10_tryBest_1 : decode cX10_tryBest 1 = .ok (.iconst (-1), 1) := dk_2 (dk_at dksX10_tryBest_0 1 rfl rfl)
theorem dX10_tryBest_2 : decode cX10_tryBest 2 = .ok (.if_icmp .eq 19, 3) := dk_159 0 19 (dk_at dksX10_tryBest_0 2 rfl rfl)
theorem dX10_tryBest_5 : decode cX10_tryBest 5 = .ok (.aload_n 0, 1) := dk_42 (dk_at dksX10_tryBest_0 5 rfl rfl)
theorem dX10_tryBest_6 : decode cX10_tryBest 6 = .ok (.getfield 419, 3) := dk_180 1 163 (dk_at dksX10_tryBest_0 6 rfl rfl)
theorem dX10_tryBest_9 : decode cX10_tryBest 9 = .ok (.iconst (-1), 1) := dk_2 (dk_at dksX10_tryBest_0 9 rfl rfl)
theorem dX10_tryBest_10 : decode cX10_tryBest 10 = .ok (.if_icmp .eq 12, 3) := dk_159 0 12 (dk_at dksX10_tryBest_0 10 rfl rfl)
theorem dX10_tryBest_13 : decode cX10_tryBest 13 = .ok (.iload_n 2, 1) := dk_28 (dk_at dksX10_tryBest_0 13 rfl rfl)
theorem dX10_tryBest_14 : decode cX10_tryBest 14 = .ok (.aload_n 0, 1) := dk_42 (dk_at dksX10_tryBest_0 14 rfl rfl)
theorem dX10_tryBest_15 : decode cX10_tryBest 15 = .ok (.getfield 422, 3) := dk_180 1 166 (dk_at dksX10_tryBest_0 15 rfl rfl)
theorem dX10_tryBest_18 : decode cX10_tryBest 18 = .ok (.if_icmp .lt 4, 3) := dk_161 0 4 (dk_at dksX10_tryBest_0 18 rfl rfl)
theorem dX10_tryBest_21 : decode cX10_tryBest 21 = .ok (.return_, 1) := dk_177 (dk_at dksX10_tryBest_0 21 rfl rfl)
theorem dX10_tryBest_22 : decode cX10_tryBest 22 = .ok (.aload_n 0, 1) := dk_42 (dk_at dksX10_tryBest_0 22 rfl rfl)
theorem dX10_tryBest_23 : decode cX10_tryBest 23 = .ok (.iload_n 1, 1) := dk_27 (dk_at dksX10_tryBest_0 23 rfl rfl)
theorem dX10_tryBest_24 : decode cX10_tryBest 24 = .ok (.putfield 419, 3) := dk_181 1 163 (dk_at dksX10_tryBest_1 0 rfl rfl)
theorem dX10_tryBest_27 : decode cX10_tryBest 27 = .ok (.aload_n 0, 1) := dk_42 (dk_at dksX10_tryBest_1 3 rfl rfl)
theorem dX10_tryBest_28 : decode cX10_tryBest 28 = .ok (.iload_n 2, 1) := dk_28 (dk_at dksX10_tryBest_1 4 rfl rfl)
theorem dX10_tryBest_29 : decode cX10_tryBest 29 = .ok (.putfield 422, 3) := dk_181 1 166 (dk_at dksX10_tryBest_1 5 rfl rfl)
theorem dX10_tryBest_32 : decode cX10_tryBest 32 = .ok (.return_, 1) := dk_177 (dk_at dksX10_tryBest_1 8 rfl rfl)
abbrev cX10_toGain : ByteArray := prog_22_method_86_code
def yX10_toGain : MethodName := ⟨RX10, "toGain", "(II)I"⟩
def dkwX10_toGain_7 : List UInt8 := [172]
abbrev dktX10_toGain_7 : List UInt8 := dkwX10_toGain_7 ++ []
def dkwX10_toGain_6 : List UInt8 := [181, 1, 10, 42, 21, 4, 181, 1, 13, 28, 154, 0, 10, 42, 180, 1, 163, 167, 0, 7, 42, 180, 1, 166]
abbrev dktX10_toGain_6 : List UInt8 := dkwX10_toGain_6 ++ dktX10_toGain_7
def dkwX10_toGain_5 : List UInt8 := [96, 181, 1, 13, 167, 255, 217, 42, 89, 180, 1, 10, 4, 96, 181, 1, 10, 167, 255, 190, 42, 29]
abbrev dktX10_toGain_5 : List UInt8 := dkwX10_toGain_5 ++ dktX10_toGain_6
def dkwX10_toGain_4 : List UInt8 := [42, 180, 1, 10, 104, 42, 180, 1, 13, 96, 42, 27, 182, 1, 172, 182, 1, 169, 42, 89, 180, 1, 13, 4]
abbrev dktX10_toGain_4 : List UInt8 := dkwX10_toGain_4 ++ dktX10_toGain_5
def dkwX10_toGain_3 : List UInt8 := [180, 1, 10, 16, 9, 163, 0, 63, 42, 3, 181, 1, 13, 42, 180, 1, 13, 6, 163, 0, 37, 42, 16, 10]
abbrev dktX10_toGain_3 : List UInt8 := dkwX10_toGain_3 ++ dktX10_toGain_4
def dkwX10_toGain_2 : List UInt8 := [54, 4, 42, 2, 181, 1, 163, 42, 2, 181, 1, 166, 42, 182, 1, 146, 42, 3, 181, 1, 10, 42]
abbrev dktX10_toGain_2 : List UInt8 := dkwX10_toGain_2 ++ dktX10_toGain_3
def dkwX10_toGain_1 : List UInt8 := [20, 1, 144, 184, 1, 102, 154, 0, 9, 42, 5, 182, 0, 250, 172, 42, 180, 1, 10, 62, 42, 180, 1, 13]
abbrev dktX10_toGain_1 : List UInt8 := dkwX10_toGain_1 ++ dktX10_toGain_2
def dkwX10_toGain_0 : List UInt8 := [42, 182, 0, 247, 28, 133, 9, 10, 184, 1, 102, 154, 0, 9, 42, 4, 182, 0, 250, 172, 27, 133, 10]
abbrev dktX10_toGain_0 : List UInt8 := dkwX10_toGain_0 ++ dktX10_toGain_1
theorem dksX10_toGain_0 : cX10_toGain.data.toList.drop 0 = dktX10_toGain_0 := by decide +kernel
theorem dksX10_toGain_1 : cX10_toGain.data.toList.drop 23 = dktX10_toGain_1 := dk_seg dksX10_toGain_0 23 rfl rfl
theorem dksX10_toGain_2 : cX10_toGain.data.toList.drop 47 = dktX10_toGain_2 := dk_seg dksX10_toGain_1 24 rfl rfl
theorem dksX10_toGain_3 : cX10_toGain.data.toList.drop 69 = dktX10_toGain_3 := dk_seg dksX10_toGain_2 22 rfl rfl
theorem dksX10_toGain_4 : cX10_toGain.data.toList.drop 93 = dktX10_toGain_4 := dk_seg dksX10_toGain_3 24 rfl rfl
theorem dksX10_toGain_5 : cX10_toGain.data.toList.drop 117 = dktX10_toGain_5 := dk_seg dksX10_toGain_4 24 rfl rfl
theorem dksX10_toGain_6 : cX10_toGain.data.toList.drop 139 = dktX10_toGain_6 := dk_seg dksX10_toGain_5 22 rfl rfl
theorem dksX10_toGain_7 : cX10_toGain.data.toList.drop 163 = dktX10_toGain_7 := dk_seg dksX10_toGain_6 24 rfl rfl
theorem dX10_toGain_0 : decode cX10_toGain 0 = .ok (.aload_n 0, 1) := dk_42 (dk_at dksX10_toGain_0 0 rfl rfl)
theorem dX10_toGain_1 : decode cX10_toGain 1 = .ok (.invokevirtual 247, 3) := dk_182 0 247 (dk_at dksX10_toGain_0 1 rfl rfl)
theorem dX10_toGain_4 : decode cX10_toGain 4 = .ok (.iload_n 2, 1) := dk_28 (dk_at dksX10_toGain_0 4 rfl rfl)
theorem dX10_toGain_5 : decode cX10_toGain 5 = .ok (.i2l, 1) := dk_133 (dk_at dksX10_toGain_0 5 rfl rfl)
theorem dX10_toGain_6 : decode cX10_toGain 6 = .ok (.lconst 0, 1) := dk_9 (dk_at dksX10_toGain_0 6 rfl rfl)
theorem dX10_toGain_7 : decode cX10_toGain 7 = .ok (.lconst 1, 1) := dk_10 (dk_at dksX10_toGain_0 7 rfl rfl)
theorem dX10_toGain_8 : decode cX10_toGain 8 = .ok (.invokestatic 358, 3) := dk_184 1 102 (dk_at dksX10_toGain_0 8 rfl rfl)
theorem dX10_toGain_11 : decode cX10_toGain 11 = .ok (.ifCond .ne 9, 3) := dk_154 0 9 (dk_at dksX10_toGain_0 11 rfl rfl)
theorem dX10_toGain_14 : decode cX10_toGain 14 = .ok (.aload_n 0, 1) := dk_42 (dk_at dksX10_toGain_0 14 rfl rfl)
theorem dX10_toGain_15 : decode cX10_toGain 15 = .ok (.iconst 1, 1) := dk_4 (dk_at dksX10_toGain_0 15 rfl rfl)
theorem dX10_toGain_16 : decode cX10_toGain 16 = .ok (.invokevirtual 250, 3) := dk_182 0 250 (dk_at dksX10_toGain_0 16 rfl rfl)
theorem dX10_toGain_19 : decode cX10_toGain 19 = .ok (.ireturn, 1) := dk_172 (dk_at dksX10_toGain_0 19 rfl rfl)
theorem dX10_toGain_20 : decode cX10_toGain 20 = .ok (.iload_n 1, 1) := dk_27 (dk_at dksX10_toGain_0 20 rfl rfl)
theorem dX10_toGain_21 : decode cX10_toGain 21 = .ok (.i2l, 1) := dk_133 (dk_at dksX10_toGain_0 21 rfl rfl)
theorem dX10_toGain_22 : decode cX10_toGain 22 = .ok (.lconst 1, 1) := dk_10 (dk_at dksX10_toGain_0 22 rfl rfl)
theorem dX10_toGain_23 : decode cX10_toGain 23 = .ok (.ldc2_w 400, 3) := dk_20 1 144 (dk_at dksX10_toGain_1 0 rfl rfl)
theorem dX10_toGain_26 : decode cX10_toGain 26 = .ok (.invokestatic 358, 3) := dk_184 1 102 (dk_at dksX10_toGain_1 3 rfl rfl)
theorem dX10_toGain_29 : decode cX10_toGain 29 = .ok (.ifCond .ne 9, 3) := dk_154 0 9 (dk_at dksX10_toGain_1 6 rfl rfl)
theorem dX10_toGain_32 : decode cX10_toGain 32 = .ok (.aload_n 0, 1) := dk_42 (dk_at dksX10_toGain_1 9 rfl rfl)
theorem dX10_toGain_33 : decode cX10_toGain 33 = .ok (.iconst 2, 1) := dk_5 (dk_at dksX10_toGain_1 10 rfl rfl)
theorem dX10_toGain_34 : decode cX10_toGain 34 = .ok (.invokevirtual 250, 3) := dk_182 0 250 (dk_at dksX10_toGain_1 11 rfl rfl)
theorem dX10_toGain_37 : decode cX10_toGain 37 = .ok (.ireturn, 1) := dk_172 (dk_at dksX10_toGain_1 14 rfl rfl)
theorem dX10_toGain_38 : decode cX10_toGain 38 = .ok (.aload_n 0, 1) := dk_42 (dk_at dksX10_toGain_1 15 rfl rfl)
theorem dX10_toGain_39 : decode cX10_toGain 39 = .ok (.getfield 266, 3) := dk_180 1 10 (dk_at dksX10_toGain_1 16 rfl rfl)
theorem dX10_toGain_42 : decode cX10_toGain 42 = .ok (.istore_n 3, 1) := dk_62 (dk_at dksX10_toGain_1 19 rfl rfl)
theorem dX10_toGain_43 : decode cX10_toGain 43 = .ok (.aload_n 0, 1) := dk_42 (dk_at dksX10_toGain_1 20 rfl rfl)
theorem dX10_toGain_44 : decode cX10_toGain 44 = .ok (.getfield 269, 3) := dk_180 1 13 (dk_at dksX10_toGain_1 21 rfl rfl)
theorem dX10_toGain_47 : decode cX10_toGain 47 = .ok (.istore 4, 2) := dk_54 4 (dk_at dksX10_toGain_2 0 rfl rfl)
theorem dX10_toGain_49 : decode cX10_toGain 49 = .ok (.aload_n 0, 1) := dk_42 (dk_at dksX10_toGain_2 2 rfl rfl)
theorem dX10_toGain_50 : decode cX10_toGain 50 = .ok (.iconst (-1), 1) := dk_2 (dk_at dksX10_toGain_2 3 rfl rfl)
theorem dX10_toGain_51 : decode cX10_toGain 51 = .ok (.putfield 419, 3) := dk_181 1 163 (dk_at dksX10_toGain_2 4 rfl rfl)
theorem dX10_toGain_54 : decode cX10_toGain 54 = .ok (.aload_n 0, 1) := dk_42 (dk_at dksX10_toGain_2 7 rfl rfl)
theorem dX10_toGain_55 : decode cX10_toGain 55 = .ok (.iconst (-1), 1) := dk_2 (dk_at dksX10_toGain_2 8 rfl rfl)
theorem dX10_toGain_56 : decode cX10_toGain 56 = .ok (.putfield 422, 3) := dk_181 1 166 (dk_at dksX10_toGain_2 9 rfl rfl)
theorem dX10_toGain_59 : decode cX10_toGain 59 = .ok (.aload_n 0, 1) := dk_42 (dk_at dksX10_toGain_2 12 rfl rfl)
theorem dX10_toGain_60 : decode cX10_toGain 60 = .ok (.invokevirtual 402, 3) := dk_182 1 146 (dk_at dksX10_toGain_2 13 rfl rfl)
theorem dX10_toGain_63 : decode cX10_toGain 63 = .ok (.aload_n 0, 1) := dk_42 (dk_at dksX10_toGain_2 16 rfl rfl)
theorem dX10_toGain_64 : decode cX10_toGain 64 = .ok (.iconst 0, 1) := dk_3 (dk_at dksX10_toGain_2 17 rfl rfl)
theorem dX10_toGain_65 : decode cX10_toGain 65 = .ok (.putfield 266, 3) := dk_181 1 10 (dk_at dksX10_toGain_2 18 rfl rfl)
theorem dX10_toGain_68 : decode cX10_toGain 68 = .ok (.aload_n 0, 1) := dk_42 (dk_at dksX10_toGain_2 21 rfl rfl)
theorem dX10_toGain_69 : decode cX10_toGain 69 = .ok (.getfield 266, 3) := dk_180 1 10 (dk_at dksX10_toGain_3 0 rfl rfl)
theorem dX10_toGain_72 : decode cX10_toGain 72 = .ok (.bipush 9, 2) := dk_16 9 (dk_at dksX10_toGain_3 3 rfl rfl)
theorem dX10_toGain_74 : decode cX10_toGain 74 = .ok (.if_icmp .gt 63, 3) := dk_163 0 63 (dk_at dksX10_toGain_3 5 rfl rfl)
theorem dX10_toGain_77 : decode cX10_toGain 77 = .ok (.aload_n 0, 1) := dk_42 (dk_at dksX10_toGain_3 8 rfl rfl)
theorem dX10_toGain_78 : decode cX10_toGain 78 = .ok (.iconst 0, 1) := dk_3 (dk_at dksX10_toGain_3 9 rfl rfl)
theorem dX10_toGain_79 : decode cX10_toGain 79 = .ok (.putfield 269, 3) := dk_181 1 13 (dk_at dksX10_toGain_3 10 rfl rfl)
theorem dX10_toGain_82 : decode cX10_toGain 82 = .ok (.aload_n 0, 1) := dk_42 (dk_at dksX10_toGain_3 13 rfl rfl)
theorem dX10_toGain_83 : decode cX10_toGain 83 = .ok (.getfield 269, 3) := dk_180 1 13 (dk_at dksX10_toGain_3 14 rfl rfl)
theorem dX10_toGain_86 : decode cX10_toGain 86 = .ok (.iconst 3, 1) := dk_6 (dk_at dksX10_toGain_3 17 rfl rfl)
theorem dX10_toGain_87 : decode cX10_toGain 87 = .ok (.if_icmp .gt 37, 3) := dk_163 0 37 (dk_at dksX10_toGain_3 18 rfl rfl)
theorem dX10_toGain_90 : decode cX10_toGain 90 = .ok (.aload_n 0, 1) := dk_42 (dk_at dksX10_toGain_3 21 rfl rfl)
theorem dX10_toGain_91 : decode cX10_toGain 91 = .ok (.bipush 10, 2) := dk_16 10 (dk_at dksX10_toGain_3 22 rfl rfl)
theorem dX10_toGain_93 : decode cX10_toGain 93 = .ok (.aload_n 0, 1) := dk_42 (dk_at dksX10_toGain_4 0 rfl rfl)
theorem dX10_toGain_94 : decode cX10_toGain 94 = .ok (.getfield 266, 3) := dk_180 1 10 (dk_at dksX10_toGain_4 1 rfl rfl)
theorem dX10_toGain_97 : decode cX10_toGain 97 = .ok (.imul, 1) := dk_104 (dk_at dksX10_toGain_4 4 rfl rfl)
theorem dX10_toGain_98 : decode cX10_toGain 98 = .ok (.aload_n 0, 1) := dk_42 (dk_at dksX10_toGain_4 5 rfl rfl)
theorem dX10_toGain_99 : decode cX10_toGain 99 = .ok (.getfield 269, 3) := dk_180 1 13 (dk_at dksX10_toGain_4 6 rfl rfl)
theorem dX10_toGain_102 : decode cX10_toGain 102 = .ok (.iadd, 1) := dk_96 (dk_at dksX10_toGain_4 9 rfl rfl)
theorem dX10_toGain_103 : decode cX10_toGain 103 = .ok (.aload_n 0, 1) := dk_42 (dk_at dksX10_toGain_4 10 rfl rfl)
theorem dX10_toGain_104 : decode cX10_toGain 104 = .ok (.iload_n 1, 1) := dk_27 (dk_at dksX10_toGain_4 11 rfl rfl)
theorem dX10_toGain_105 : decode cX10_toGain 105 = .ok (.invokevirtual 428, 3) := dk_182 1 172 (dk_at dksX10_toGain_4 12 rfl rfl)
theorem dX10_toGain_108 : decode cX10_toGain 108 = .ok (.invokevirtual 425, 3) := dk_182 1 169 (dk_at dksX10_toGain_4 15 rfl rfl)
theorem dX10_toGain_111 : decode cX10_toGain 111 = .ok (.aload_n 0, 1) := dk_42 (dk_at dksX10_toGain_4 18 rfl rfl)
theorem dX10_toGain_112 : decode cX10_toGain 112 = .ok (.dup, 1) := dk_89 (dk_at dksX10_toGain_4 19 rfl rfl)
theorem dX10_toGain_113 : decode cX10_toGain 113 = .ok (.getfield 269, 3) := dk_180 1 13 (dk_at dksX10_toGain_4 20 rfl rfl)
theorem dX10_toGain_116 : decode cX10_toGain 116 = .ok (.iconst 1, 1) := dk_4 (dk_at dksX10_toGain_4 23 rfl rfl)
theorem dX10_toGain_117 : decode cX10_toGain 117 = .ok (.iadd, 1) := dk_96 (dk_at dksX10_toGain_5 0 rfl rfl)
theorem dX10_toGain_118 : decode cX10_toGain 118 = .ok (.putfield 269, 3) := dk_181 1 13 (dk_at dksX10_toGain_5 1 rfl rfl)
theorem dX10_toGain_121 : decode cX10_toGain 121 = .ok (.goto (-39), 3) := dk_167 255 217 (dk_at dksX10_toGain_5 4 rfl rfl)
theorem dX10_toGain_124 : decode cX10_toGain 124 = .ok (.aload_n 0, 1) := dk_42 (dk_at dksX10_toGain_5 7 rfl rfl)
theorem dX10_toGain_125 : decode cX10_toGain 125 = .ok (.dup, 1) := dk_89 (dk_at dksX10_toGain_5 8 rfl rfl)
theorem dX10_toGain_126 : decode cX10_toGain 126 = .ok (.getfield 266, 3) := dk_180 1 10 (dk_at dksX10_toGain_5 9 rfl rfl)
theorem dX10_toGain_129 : decode cX10_toGain 129 = .ok (.iconst 1, 1) := dk_4 (dk_at dksX10_toGain_5 12 rfl rfl)
theorem dX10_toGain_130 : decode cX10_toGain 130 = .ok (.iadd, 1) := dk_96 (dk_at dksX10_toGain_5 13 rfl rfl)
theorem dX10_toGain_131 : decode cX10_toGain 131 = .ok (.putfield 266, 3) := dk_181 1 10 (dk_at dksX10_toGain_5 14 rfl rfl)
theorem dX10_toGain_134 : decode cX10_toGain 134 = .ok (.goto (-66), 3) := dk_167 255 190 (dk_at dksX10_toGain_5 17 rfl rfl)
theorem dX10_toGain_137 : decode cX10_toGain 137 = .ok (.aload_n 0, 1) := dk_42 (dk_at dksX10_toGain_5 20 rfl rfl)
theorem dX10_toGain_138 : decode cX10_toGain 138 = .ok (.iload_n 3, 1) := dk_29 (dk_at dksX10_toGain_5 21 rfl rfl)
theorem dX10_toGain_139 : decode cX10_toGain 139 = .ok (.putfield 266, 3) := dk_181 1 10 (dk_at dksX10_toGain_6 0 rfl rfl)
theorem dX10_toGain_142 : decode cX10_toGain 142 = .ok (.aload_n 0, 1) := dk_42 (dk_at dksX10_toGain_6 3 rfl rfl)
theorem dX10_toGain_143 : decode cX10_toGain 143 = .ok (.iload 4, 2) := dk_21 4 (dk_at dksX10_toGain_6 4 rfl rfl)
theorem dX10_toGain_145 : decode cX10_toGain 145 = .ok (.putfield 269, 3) := dk_181 1 13 (dk_at dksX10_toGain_6 6 rfl rfl)
theorem dX10_toGain_148 : decode cX10_toGain 148 = .ok (.iload_n 2, 1) := dk_28 (dk_at dksX10_toGain_6 9 rfl rfl)
theorem dX10_toGain_149 : decode cX10_toGain 149 = .ok (.ifCond .ne 10, 3) := dk_154 0 10 (dk_at dksX10_toGain_6 10 rfl rfl)
theorem dX10_toGain_152 : decode cX10_toGain 152 = .ok (.aload_n 0, 1) := dk_42 (dk_at dksX10_toGain_6 13 rfl rfl)
theorem dX10_toGain_153 : decode cX10_toGain 153 = .ok (.getfield 419, 3) := dk_180 1 163 (dk_at dksX10_toGain_6 14 rfl rfl)
theorem dX10_toGain_156 : decode cX10_toGain 156 = .ok (.goto 7, 3) := dk_167 0 7 (dk_at dksX10_toGain_6 17 rfl rfl)
theorem dX10_toGain_159 : decode cX10_toGain 159 = .ok (.aload_n 0, 1) := dk_42 (dk_at dksX10_toGain_6 20 rfl rfl)
theorem dX10_toGain_160 : decode cX10_toGain 160 = .ok (.getfield 422, 3) := dk_180 1 166 (dk_at dksX10_toGain_6 21 rfl rfl)
theorem dX10_toGain_163 : decode cX10_toGain 163 = .ok (.ireturn, 1) := dk_172 (dk_at dksX10_toGain_7 0 rfl rfl)
abbrev cX10_farOff : ByteArray := prog_22_method_85_code
def yX10_farOff : MethodName := ⟨RX10, "farOff", "(I)I"⟩
def dkwX10_farOff_2 : List UInt8 := [167, 255, 213, 42, 28, 182, 1, 149, 172]
abbrev dktX10_farOff_2 : List UInt8 := dkwX10_farOff_2 ++ []
def dkwX10_farOff_1 : List UInt8 := [28, 42, 182, 1, 69, 42, 180, 0, 59, 16, 29, 46, 100, 184, 1, 157, 184, 0, 130, 61, 132, 3, 1]
abbrev dktX10_farOff_1 : List UInt8 := dkwX10_farOff_1 ++ dktX10_farOff_2
def dkwX10_farOff_0 : List UInt8 := [2, 61, 3, 62, 29, 27, 162, 0, 44, 42, 182, 1, 93, 42, 180, 0, 59, 16, 8, 46, 5, 160, 0, 23]
abbrev dktX10_farOff_0 : List UInt8 := dkwX10_farOff_0 ++ dktX10_farOff_1
theorem dksX10_farOff_0 : cX10_farOff.data.toList.drop 0 = dktX10_farOff_0 := by decide +kernel
theorem dksX10_farOff_1 : cX10_farOff.data.toList.drop 24 = dktX10_farOff_1 := dk_seg dksX10_farOff_0 24 rfl rfl
theorem dksX10_farOff_2 : cX10_farOff.data.toList.drop 47 = dktX10_farOff_2 := dk_seg dksX10_farOff_1 23 rfl rfl
theorem dX10_farOff_0 : decode cX10_farOff 0 = .ok (.iconst (-1), 1) := dk_2 (dk_at dksX10_farOff_0 0 rfl rfl)
theorem dX10_farOff_1 : decode cX10_farOff 1 = .ok (.istore_n 2, 1) := dk_61 (dk_at dksX10_farOff_0 1 rfl rfl)
theorem dX10_farOff_2 : decode cX10_farOff 2 = .ok (.iconst 0, 1) := dk_3 (dk_at dksX10_farOff_0 2 rfl rfl)
theorem dX10_farOff_3 : decode cX10_farOff 3 = .ok (.istore_n 3, 1) := dk_62 (dk_at dksX10_farOff_0 3 rfl rfl)
theorem dX10_farOff_4 : decode cX10_farOff 4 = .ok (.iload_n 3, 1) := dk_29 (dk_at dksX10_farOff_0 4 rfl rfl)
theorem dX10_farOff_5 : decode cX10_farOff 5 = .ok (.iload_n 1, 1) := dk_27 (dk_at dksX10_farOff_0 5 rfl rfl)
theorem dX10_farOff_6 : decode cX10_farOff 6 = .ok (.if_icmp .ge 44, 3) := dk_162 0 44 (dk_at dksX10_farOff_0 6 rfl rfl)
theorem dX10_farOff_9 : decode cX10_farOff 9 = .ok (.aload_n 0, 1) := dk_42 (dk_at dksX10_farOff_0 9 rfl rfl)
theorem dX10_farOff_10 : decode cX10_farOff 10 = .ok (.invokevirtual 349, 3) := dk_182 1 93 (dk_at dksX10_farOff_0 10 rfl rfl)
theorem dX10_farOff_13 : decode cX10_farOff 13 = .ok (.aload_n 0, 1) := dk_42 (dk_at dksX10_farOff_0 13 rfl rfl)
theorem dX10_farOff_14 : decode cX10_farOff 14 = .ok (.getfield 59, 3) := dk_180 0 59 (dk_at dksX10_farOff_0 14 rfl rfl)
theorem dX10_farOff_17 : decode cX10_farOff 17 = .ok (.bipush 8, 2) := dk_16 8 (dk_at dksX10_farOff_0 17 rfl rfl)
theorem dX10_farOff_19 : decode cX10_farOff 19 = .ok (.iaload, 1) := dk_46 (dk_at dksX10_farOff_0 19 rfl rfl)
theorem dX10_farOff_20 : decode cX10_farOff 20 = .ok (.iconst 2, 1) := dk_5 (dk_at dksX10_farOff_0 20 rfl rfl)
theorem dX10_farOff_21 : decode cX10_farOff 21 = .ok (.if_icmp .ne 23, 3) := dk_160 0 23 (dk_at dksX10_farOff_0 21 rfl rfl)
theorem dX10_farOff_24 : decode cX10_farOff 24 = .ok (.iload_n 2, 1) := dk_28 (dk_at dksX10_farOff_1 0 rfl rfl)
theorem dX10_farOff_25 : decode cX10_farOff 25 = .ok (.aload_n 0, 1) := dk_42 (dk_at dksX10_farOff_1 1 rfl rfl)
theorem dX10_farOff_26 : decode cX10_farOff 26 = .ok (.invokevirtual 325, 3) := dk_182 1 69 (dk_at dksX10_farOff_1 2 rfl rfl)
theorem dX10_farOff_29 : decode cX10_farOff 29 = .ok (.aload_n 0, 1) := dk_42 (dk_at dksX10_farOff_1 5 rfl rfl)
theorem dX10_farOff_30 : decode cX10_farOff 30 = .ok (.getfield 59, 3) := dk_180 0 59 (dk_at dksX10_farOff_1 6 rfl rfl)
theorem dX10_farOff_33 : decode cX10_farOff 33 = .ok (.bipush 29, 2) := dk_16 29 (dk_at dksX10_farOff_1 9 rfl rfl)
theorem dX10_farOff_35 : decode cX10_farOff 35 = .ok (.iaload, 1) := dk_46 (dk_at dksX10_farOff_1 11 rfl rfl)
theorem dX10_farOff_36 : decode cX10_farOff 36 = .ok (.isub, 1) := dk_100 (dk_at dksX10_farOff_1 12 rfl rfl)
theorem dX10_farOff_37 : decode cX10_farOff 37 = .ok (.invokestatic 413, 3) := dk_184 1 157 (dk_at dksX10_farOff_1 13 rfl rfl)
theorem dX10_farOff_40 : decode cX10_farOff 40 = .ok (.invokestatic 130, 3) := dk_184 0 130 (dk_at dksX10_farOff_1 16 rfl rfl)
theorem dX10_farOff_43 : decode cX10_farOff 43 = .ok (.istore_n 2, 1) := dk_61 (dk_at dksX10_farOff_1 19 rfl rfl)
theorem dX10_farOff_44 : decode cX10_farOff 44 = .ok (.iinc 3 1, 3) := dk_132 3 1 (dk_at dksX10_farOff_1 20 rfl rfl)
theorem dX10_farOff_47 : decode cX10_farOff 47 = .ok (.goto (-43), 3) := dk_167 255 213 (dk_at dksX10_farOff_2 0 rfl rfl)
theorem dX10_farOff_50 : decode cX10_farOff 50 = .ok (.aload_n 0, 1) := dk_42 (dk_at dksX10_farOff_2 3 rfl rfl)
theorem dX10_farOff_51 : decode cX10_farOff 51 = .ok (.iload_n 2, 1) := dk_28 (dk_at dksX10_farOff_2 4 rfl rfl)
theorem dX10_farOff_52 : decode cX10_farOff 52 = .ok (.invokevirtual 405, 3) := dk_182 1 149 (dk_at dksX10_farOff_2 5 rfl rfl)
theorem dX10_farOff_55 : decode cX10_farOff 55 = .ok (.ireturn, 1) := dk_172 (dk_at dksX10_farOff_2 8 rfl rfl)
abbrev cX10_note : ByteArray := prog_22_method_87_code
def yX10_note : MethodName := ⟨RX10, "note", "(II)I"⟩
def dkwX10_note_3 : List UInt8 := [4, 96, 181, 1, 25, 42, 180, 1, 25, 172]
abbrev dktX10_note_3 : List UInt8 := dkwX10_note_3 ++ []
def dkwX10_note_2 : List UInt8 := [180, 0, 94, 42, 180, 1, 25, 27, 79, 42, 180, 0, 97, 42, 180, 1, 25, 28, 79, 42, 89, 180, 1, 25]
abbrev dktX10_note_2 : List UInt8 := dkwX10_note_2 ++ dktX10_note_3
def dkwX10_note_1 : List UInt8 := [153, 0, 15, 28, 133, 9, 20, 1, 177, 184, 1, 102, 154, 0, 9, 42, 5, 182, 1, 125, 172, 42]
abbrev dktX10_note_1 : List UInt8 := dkwX10_note_1 ++ dktX10_note_2
def dkwX10_note_0 : List UInt8 := [42, 182, 0, 247, 42, 180, 1, 25, 16, 8, 159, 0, 27, 27, 133, 9, 20, 1, 175, 184, 1, 102]
abbrev dktX10_note_0 : List UInt8 := dkwX10_note_0 ++ dktX10_note_1
theorem dksX10_note_0 : cX10_note.data.toList.drop 0 = dktX10_note_0 := by decide +kernel
theorem dksX10_note_1 : cX10_note.data.toList.drop 22 = dktX10_note_1 := dk_seg dksX10_note_0 22 rfl rfl
theorem dksX10_note_2 : cX10_note.data.toList.drop 44 = dktX10_note_2 := dk_seg dksX10_note_1 22 rfl rfl
theorem dksX10_note_3 : cX10_note.data.toList.drop 68 = dktX10_note_3 := dk_seg dksX10_note_2 24 rfl rfl
theorem dX10_note_0 : decode cX10_note 0 = .ok (.aload_n 0, 1) := dk_42 (dk_at dksX10_note_0 0 rfl rfl)
theorem dX10_note_1 : decode cX10_note 1 = .ok (.invokevirtual 247, 3) := dk_182 0 247 (dk_at dksX10_note_0 1 rfl rfl)
theorem dX10_note_4 : decode cX10_note 4 = .ok (.aload_n 0, 1) := dk_42 (dk_at dksX10_note_0 4 rfl rfl)
theorem dX10_note_5 : decode cX10_note 5 = .ok (.getfield 281, 3) := dk_180 1 25 (dk_at dksX10_note_0 5 rfl rfl)
theorem dX10_note_8 : decode cX10_note 8 = .ok (.bipush 8, 2) := dk_16 8 (dk_at dksX10_note_0 8 rfl rfl)
theorem dX10_note_10 : decode cX10_note 10 = .ok (.if_icmp .eq 27, 3) := dk_159 0 27 (dk_at dksX10_note_0 10 rfl rfl)
theorem dX10_note_13 : decode cX10_note 13 = .ok (.iload_n 1, 1) := dk_27 (dk_at dksX10_note_0 13 rfl rfl)
theorem dX10_note_14 : decode cX10_note 14 = .ok (.i2l, 1) := dk_133 (dk_at dksX10_note_0 14 rfl rfl)
theorem dX10_note_15 : decode cX10_note 15 = .ok (.lconst 0, 1) := dk_9 (dk_at dksX10_note_0 15 rfl rfl)
theorem dX10_note_16 : decode cX10_note 16 = .ok (.ldc2_w 431, 3) := dk_20 1 175 (dk_at dksX10_note_0 16 rfl rfl)
theorem dX10_note_19 : decode cX10_note 19 = .ok (.invokestatic 358, 3) := dk_184 1 102 (dk_at dksX10_note_0 19 rfl rfl)
theorem dX10_note_22 : decode cX10_note 22 = .ok (.ifCond .eq 15, 3) := dk_153 0 15 (dk_at dksX10_note_1 0 rfl rfl)
theorem dX10_note_25 : decode cX10_note 25 = .ok (.iload_n 2, 1) := dk_28 (dk_at dksX10_note_1 3 rfl rfl)
theorem dX10_note_26 : decode cX10_note 26 = .ok (.i2l, 1) := dk_133 (dk_at dksX10_note_1 4 rfl rfl)
theorem dX10_note_27 : decode cX10_note 27 = .ok (.lconst 0, 1) := dk_9 (dk_at dksX10_note_1 5 rfl rfl)
theorem dX10_note_28 : decode cX10_note 28 = .ok (.ldc2_w 433, 3) := dk_20 1 177 (dk_at dksX10_note_1 6 rfl rfl)
theorem dX10_note_31 : decode cX10_note 31 = .ok (.invokestatic 358, 3) := dk_184 1 102 (dk_at dksX10_note_1 9 rfl rfl)
theorem dX10_note_34 : decode cX10_note 34 = .ok (.ifCond .ne 9, 3) := dk_154 0 9 (dk_at dksX10_note_1 12 rfl rfl)
theorem dX10_note_37 : decode cX10_note 37 = .ok (.aload_n 0, 1) := dk_42 (dk_at dksX10_note_1 15 rfl rfl)
theorem dX10_note_38 : decode cX10_note 38 = .ok (.iconst 2, 1) := dk_5 (dk_at dksX10_note_1 16 rfl rfl)
theorem dX10_note_39 : decode cX10_note 39 = .ok (.invokevirtual 381, 3) := dk_182 1 125 (dk_at dksX10_note_1 17 rfl rfl)
theorem dX10_note_42 : decode cX10_note 42 = .ok (.ireturn, 1) := dk_172 (dk_at dksX10_note_1 20 rfl rfl)
theorem dX10_note_43 : decode cX10_note 43 = .ok (.aload_n 0, 1) := dk_42 (dk_at dksX10_note_1 21 rfl rfl)
theorem dX10_note_44 : decode cX10_note 44 = .ok (.getfield 94, 3) := dk_180 0 94 (dk_at dksX10_note_2 0 rfl rfl)
theorem dX10_note_47 : decode cX10_note 47 = .ok (.aload_n 0, 1) := dk_42 (dk_at dksX10_note_2 3 rfl rfl)
theorem dX10_note_48 : decode cX10_note 48 = .ok (.getfield 281, 3) := dk_180 1 25 (dk_at dksX10_note_2 4 rfl rfl)
theorem dX10_note_51 : decode cX10_note 51 = .ok (.iload_n 1, 1) := dk_27 (dk_at dksX10_note_2 7 rfl rfl)
theorem dX10_note_52 : decode cX10_note 52 = .ok (.iastore, 1) := dk_79 (dk_at dksX10_note_2 8 rfl rfl)
theorem dX10_note_53 : decode cX10_note 53 = .ok (.aload_n 0, 1) := dk_42 (dk_at dksX10_note_2 9 rfl rfl)
theorem dX10_note_54 : decode cX10_note 54 = .ok (.getfield 97, 3) := dk_180 0 97 (dk_at dksX10_note_2 10 rfl rfl)
theorem dX10_note_57 : decode cX10_note 57 = .ok (.aload_n 0, 1) := dk_42 (dk_at dksX10_note_2 13 rfl rfl)
theorem dX10_note_58 : decode cX10_note 58 = .ok (.getfield 281, 3) := dk_180 1 25 (dk_at dksX10_note_2 14 rfl rfl)
theorem dX10_note_61 : decode cX10_note 61 = .ok (.iload_n 2, 1) := dk_28 (dk_at dksX10_note_2 17 rfl rfl)
theorem dX10_note_62 : decode cX10_note 62 = .ok (.iastore, 1) := dk_79 (dk_at dksX10_note_2 18 rfl rfl)
theorem dX10_note_63 : decode cX10_note 63 = .ok (.aload_n 0, 1) := dk_42 (dk_at dksX10_note_2 19 rfl rfl)
theorem dX10_note_64 : decode cX10_note 64 = .ok (.dup, 1) := dk_89 (dk_at dksX10_note_2 20 rfl rfl)
theorem dX10_note_65 : decode cX10_note 65 = .ok (.getfield 281, 3) := dk_180 1 25 (dk_at dksX10_note_2 21 rfl rfl)
theorem dX10_note_68 : decode cX10_note 68 = .ok (.iconst 1, 1) := dk_4 (dk_at dksX10_note_3 0 rfl rfl)
theorem dX10_note_69 : decode cX10_note 69 = .ok (.iadd, 1) := dk_96 (dk_at dksX10_note_3 1 rfl rfl)
theorem dX10_note_70 : decode cX10_note 70 = .ok (.putfield 281, 3) := dk_181 1 25 (dk_at dksX10_note_3 2 rfl rfl)
theorem dX10_note_73 : decode cX10_note 73 = .ok (.aload_n 0, 1) := dk_42 (dk_at dksX10_note_3 5 rfl rfl)
theorem dX10_note_74 : decode cX10_note 74 = .ok (.getfield 281, 3) := dk_180 1 25 (dk_at dksX10_note_3 6 rfl rfl)
theorem dX10_note_77 : decode cX10_note 77 = .ok (.ireturn, 1) := dk_172 (dk_at dksX10_note_3 9 rfl rfl)
abbrev cX10_other : ByteArray := prog_22_method_90_code
def yX10_other : MethodName := ⟨RX10, "other", "(I)I"⟩
def dkwX10_other_3 : List UInt8 := [167, 0, 9, 42, 180, 0, 100, 3, 46, 172]
abbrev dktX10_other_3 : List UInt8 := dkwX10_other_3 ++ []
def dkwX10_other_2 : List UInt8 := [182, 1, 185, 27, 154, 0, 10, 42, 180, 1, 179, 167, 0, 21, 42, 180, 1, 179, 154, 0, 8, 16, 100]
abbrev dktX10_other_2 : List UInt8 := dkwX10_other_2 ++ dktX10_other_3
def dkwX10_other_1 : List UInt8 := [160, 0, 21, 42, 182, 1, 146, 42, 3, 182, 1, 182, 153, 0, 7, 4, 167, 0, 4, 3, 172, 42]
abbrev dktX10_other_1 : List UInt8 := dkwX10_other_1 ++ dktX10_other_2
def dkwX10_other_0 : List UInt8 := [42, 182, 0, 247, 27, 133, 9, 20, 1, 106, 184, 1, 102, 154, 0, 9, 42, 4, 182, 0, 250, 172, 27, 5]
abbrev dktX10_other_0 : List UInt8 := dkwX10_other_0 ++ dktX10_other_1
theorem dksX10_other_0 : cX10_other.data.toList.drop 0 = dktX10_other_0 := by decide +kernel
theorem dksX10_other_1 : cX10_other.data.toList.drop 24 = dktX10_other_1 := dk_seg dksX10_other_0 24 rfl rfl
theorem dksX10_other_2 : cX10_other.data.toList.drop 46 = dktX10_other_2 := dk_seg dksX10_other_1 22 rfl rfl
theorem dksX10_other_3 : cX10_other.data.toList.drop 69 = dktX10_other_3 := dk_seg dksX10_other_2 23 rfl rfl
theorem dX10_other_0 : decode cX10_other 0 = .ok (.aload_n 0, 1) := dk_42 (dk_at dksX10_other_0 0 rfl rfl)
theorem dX10_other_1 : decode cX10_other 1 = .ok (.invokevirtual 247, 3) := dk_182 0 247 (dk_at dksX10_other_0 1 rfl rfl)
theorem dX10_other_4 : decode cX10_other 4 = .ok (.iload_n 1, 1) := dk_27 (dk_at dksX10_other_0 4 rfl rfl)
theorem dX10_other_5 : decode cX10_other 5 = .ok (.i2l, 1) := dk_133 (dk_at dksX10_other_0 5 rfl rfl)
theorem dX10_other_6 : decode cX10_other 6 = .ok (.lconst 0, 1) := dk_9 (dk_at dksX10_other_0 6 rfl rfl)
theorem dX10_other_7 : decode cX10_other 7 = .ok (.ldc2_w 362, 3) := dk_20 1 106 (dk_at dksX10_other_0 7 rfl rfl)
theorem dX10_other_10 : decode cX10_other 10 = .ok (.invokestatic 358, 3) := dk_184 1 102 (dk_at dksX10_other_0 10 rfl rfl)
theorem dX10_other_13 : decode cX10_other 13 = .ok (.ifCond .ne 9, 3) := dk_154 0 9 (dk_at dksX10_other_0 13 rfl rfl)
theorem dX10_other_16 : decode cX10_other 16 = .ok (.aload_n 0, 1) := dk_42 (dk_at dksX10_other_0 16 rfl rfl)
theorem dX10_other_17 : decode cX10_other 17 = .ok (.iconst 1, 1) := dk_4 (dk_at dksX10_other_0 17 rfl rfl)
theorem dX10_other_18 : decode cX10_other 18 = .ok (.invokevirtual 250, 3) := dk_182 0 250 (dk_at dksX10_other_0 18 rfl rfl)
theorem dX10_other_21 : decode cX10_other 21 = .ok (.ireturn, 1) := dk_172 (dk_at dksX10_other_0 21 rfl rfl)
theorem dX10_other_22 : decode cX10_other 22 = .ok (.iload_n 1, 1) := dk_27 (dk_at dksX10_other_0 22 rfl rfl)
theorem dX10_other_23 : decode cX10_other 23 = .ok (.iconst 2, 1) := dk_5 (dk_at dksX10_other_0 23 rfl rfl)
theorem dX10_other_24 : decode cX10_other 24 = .ok (.if_icmp .ne 21, 3) := dk_160 0 21 (dk_at dksX10_other_1 0 rfl rfl)
theorem dX10_other_27 : decode cX10_other 27 = .ok (.aload_n 0, 1) := dk_42 (dk_at dksX10_other_1 3 rfl rfl)
theorem dX10_other_28 : decode cX10_other 28 = .ok (.invokevirtual 402, 3) := dk_182 1 146 (dk_at dksX10_other_1 4 rfl rfl)
theorem dX10_other_31 : decode cX10_other 31 = .ok (.aload_n 0, 1) := dk_42 (dk_at dksX10_other_1 7 rfl rfl)
theorem dX10_other_32 : decode cX10_other 32 = .ok (.iconst 0, 1) := dk_3 (dk_at dksX10_other_1 8 rfl rfl)
theorem dX10_other_33 : decode cX10_other 33 = .ok (.invokevirtual 438, 3) := dk_182 1 182 (dk_at dksX10_other_1 9 rfl rfl)
theorem dX10_other_36 : decode cX10_other 36 = .ok (.ifCond .eq 7, 3) := dk_153 0 7 (dk_at dksX10_other_1 12 rfl rfl)
theorem dX10_other_39 : decode cX10_other 39 = .ok (.iconst 1, 1) := dk_4 (dk_at dksX10_other_1 15 rfl rfl)
theorem dX10_other_40 : decode cX10_other 40 = .ok (.goto 4, 3) := dk_167 0 4 (dk_at dksX10_other_1 16 rfl rfl)
theorem dX10_other_43 : decode cX10_other 43 = .ok (.iconst 0, 1) := dk_3 (dk_at dksX10_other_1 19 rfl rfl)
theorem dX10_other_44 : decode cX10_other 44 = .ok (.ireturn, 1) := dk_172 (dk_at dksX10_other_1 20 rfl rfl)
theorem dX10_other_45 : decode cX10_other 45 = .ok (.aload_n 0, 1) := dk_42 (dk_at dksX10_other_1 21 rfl rfl)
theorem dX10_other_46 : decode cX10_other 46 = .ok (.invokevirtual 441, 3) := dk_182 1 185 (dk_at dksX10_other_2 0 rfl rfl)
theorem dX10_other_49 : decode cX10_other 49 = .ok (.iload_n 1, 1) := dk_27 (dk_at dksX10_other_2 3 rfl rfl)
theorem dX10_other_50 : decode cX10_other 50 = .ok (.ifCond .ne 10, 3) := dk_154 0 10 (dk_at dksX10_other_2 4 rfl rfl)
theorem dX10_other_53 : decode cX10_other 53 = .ok (.aload_n 0, 1) := dk_42 (dk_at dksX10_other_2 7 rfl rfl)
theorem dX10_other_54 : decode cX10_other 54 = .ok (.getfield 435, 3) := dk_180 1 179 (dk_at dksX10_other_2 8 rfl rfl)
theorem dX10_other_57 : decode cX10_other 57 = .ok (.goto 21, 3) := dk_167 0 21 (dk_at dksX10_other_2 11 rfl rfl)
theorem dX10_other_60 : decode cX10_other 60 = .ok (.aload_n 0, 1) := dk_42 (dk_at dksX10_other_2 14 rfl rfl)
theorem dX10_other_61 : decode cX10_other 61 = .ok (.getfield 435, 3) := dk_180 1 179 (dk_at dksX10_other_2 15 rfl rfl)
theorem dX10_other_64 : decode cX10_other 64 = .ok (.ifCond .ne 8, 3) := dk_154 0 8 (dk_at dksX10_other_2 18 rfl rfl)
theorem dX10_other_67 : decode cX10_other 67 = .ok (.bipush 100, 2) := dk_16 100 (dk_at dksX10_other_2 21 rfl rfl)
theorem dX10_other_69 : decode cX10_other 69 = .ok (.goto 9, 3) := dk_167 0 9 (dk_at dksX10_other_3 0 rfl rfl)
theorem dX10_other_72 : decode cX10_other 72 = .ok (.aload_n 0, 1) := dk_42 (dk_at dksX10_other_3 3 rfl rfl)
theorem dX10_other_73 : decode cX10_other 73 = .ok (.getfield 100, 3) := dk_180 0 100 (dk_at dksX10_other_3 4 rfl rfl)
theorem dX10_other_76 : decode cX10_other 76 = .ok (.iconst 0, 1) := dk_3 (dk_at dksX10_other_3 7 rfl rfl)
theorem dX10_other_77 : decode cX10_other 77 = .ok (.iaload, 1) := dk_46 (dk_at dksX10_other_3 8 rfl rfl)
theorem dX10_other_78 : decode cX10_other 78 = .ok (.ireturn, 1) := dk_172 (dk_at dksX10_other_3 9 rfl rfl)
abbrev cX10_isAsNoted : ByteArray := prog_22_method_88_code
def yX10_isAsNoted : MethodName := ⟨RX10, "isAsNoted", "(I)Z"⟩
def dkwX10_isAsNoted_5 : List UInt8 := [182, 1, 149, 87, 28, 172]
abbrev dktX10_isAsNoted_5 : List UInt8 := dkwX10_isAsNoted_5 ++ []
def dkwX10_isAsNoted_4 : List UInt8 := [104, 29, 16, 10, 108, 96, 4, 100, 21, 4, 79, 42, 182, 1, 93, 132, 3, 1, 167, 255, 150, 42, 3]
abbrev dktX10_isAsNoted_4 : List UInt8 := dkwX10_isAsNoted_4 ++ dktX10_isAsNoted_5
def dkwX10_isAsNoted_3 : List UInt8 := [158, 0, 35, 29, 16, 10, 112, 154, 0, 28, 29, 16, 10, 108, 8, 163, 0, 20, 42, 180, 0, 103, 8, 27]
abbrev dktX10_isAsNoted_3 : List UInt8 := dkwX10_isAsNoted_3 ++ dktX10_isAsNoted_4
def dkwX10_isAsNoted_2 : List UInt8 := [180, 0, 97, 21, 5, 46, 21, 4, 160, 0, 7, 4, 167, 0, 4, 3, 61, 132, 5, 1, 167, 255, 211, 29]
abbrev dktX10_isAsNoted_2 : List UInt8 := dkwX10_isAsNoted_2 ++ dktX10_isAsNoted_3
def dkwX10_isAsNoted_1 : List UInt8 := [180, 1, 25, 162, 0, 42, 28, 153, 0, 30, 42, 180, 0, 94, 21, 5, 46, 29, 160, 0, 15, 42]
abbrev dktX10_isAsNoted_1 : List UInt8 := dkwX10_isAsNoted_1 ++ dktX10_isAsNoted_2
def dkwX10_isAsNoted_0 : List UInt8 := [4, 61, 3, 62, 29, 16, 60, 163, 0, 106, 42, 182, 1, 69, 54, 4, 3, 54, 5, 21, 5, 42]
abbrev dktX10_isAsNoted_0 : List UInt8 := dkwX10_isAsNoted_0 ++ dktX10_isAsNoted_1
theorem dksX10_isAsNoted_0 : cX10_isAsNoted.data.toList.drop 0 = dktX10_isAsNoted_0 := by decide +kernel
theorem dksX10_isAsNoted_1 : cX10_isAsNoted.data.toList.drop 22 = dktX10_isAsNoted_1 := dk_seg dksX10_isAsNoted_0 22 rfl rfl
theorem dksX10_isAsNoted_2 : cX10_isAsNoted.data.toList.drop 44 = dktX10_isAsNoted_2 := dk_seg dksX10_isAsNoted_1 22 rfl rfl
theorem dksX10_isAsNoted_3 : cX10_isAsNoted.data.toList.drop 68 = dktX10_isAsNoted_3 := dk_seg dksX10_isAsNoted_2 24 rfl rfl
theorem dksX10_isAsNoted_4 : cX10_isAsNoted.data.toList.drop 92 = dktX10_isAsNoted_4 := dk_seg dksX10_isAsNoted_3 24 rfl rfl
theorem dksX10_isAsNoted_5 : cX10_isAsNoted.data.toList.drop 115 = dktX10_isAsNoted_5 := dk_seg dksX10_isAsNoted_4 23 rfl rfl
theorem dX10_isAsNoted_0 : decode cX10_isAsNoted 0 = .ok (.iconst 1, 1) := dk_4 (dk_at dksX10_isAsNoted_0 0 rfl rfl)
theorem dX10_isAsNoted_1 : decode cX10_isAsNoted 1 = .ok (.istore_n 2, 1) := dk_61 (dk_at dksX10_isAsNoted_0 1 rfl rfl)
theorem dX10_isAsNoted_2 : decode cX10_isAsNoted 2 = .ok (.iconst 0, 1) := dk_3 (dk_at dksX10_isAsNoted_0 2 rfl rfl)
theorem dX10_isAsNoted_3 : decode cX10_isAsNoted 3 = .ok (.istore_n 3, 1) := dk_62 (dk_at dksX10_isAsNoted_0 3 rfl rfl)
theorem dX10_isAsNoted_4 : decode cX10_isAsNoted 4 = .ok (.iload_n 3, 1) := dk_29 (dk_at dksX10_isAsNoted_0 4 rfl rfl)
theorem dX10_isAsNoted_5 : decode cX10_isAsNoted 5 = .ok (.bipush 60, 2) := dk_16 60 (dk_at dksX10_isAsNoted_0 5 rfl rfl)
theorem dX10_isAsNoted_7 : decode cX10_isAsNoted 7 = .ok (.if_icmp .gt 106, 3) := dk_163 0 106 (dk_at dksX10_isAsNoted_0 7 rfl rfl)
theorem dX10_isAsNoted_10 : decode cX10_isAsNoted 10 = .ok (.aload_n 0, 1) := dk_42 (dk_at dksX10_isAsNoted_0 10 rfl rfl)
theorem dX10_isAsNoted_11 : decode cX10_isAsNoted 11 = .ok (.invokevirtual 325, 3) := dk_182 1 69 (dk_at dksX10_isAsNoted_0 11 rfl rfl)
theorem dX10_isAsNoted_14 : decode cX10_isAsNoted 14 = .ok (.istore 4, 2) := dk_54 4 (dk_at dksX10_isAsNoted_0 14 rfl rfl)
theorem dX10_isAsNoted_16 : decode cX10_isAsNoted 16 = .ok (.iconst 0, 1) := dk_3 (dk_at dksX10_isAsNoted_0 16 rfl rfl)
theorem dX10_isAsNoted_17 : decode cX10_isAsNoted 17 = .ok (.istore 5, 2) := dk_54 5 (dk_at dksX10_isAsNoted_0 17 rfl rfl)
theorem dX10_isAsNoted_19 : decode cX10_isAsNoted 19 = .ok (.iload 5, 2) := dk_21 5 (dk_at dksX10_isAsNoted_0 19 rfl rfl)
theorem dX10_isAsNoted_21 : decode cX10_isAsNoted 21 = .ok (.aload_n 0, 1) := dk_42 (dk_at dksX10_isAsNoted_0 21 rfl rfl)
theorem dX10_isAsNoted_22 : decode cX10_isAsNoted 22 = .ok (.getfield 281, 3) := dk_180 1 25 (dk_at dksX10_isAsNoted_1 0 rfl rfl)
theorem dX10_isAsNoted_25 : decode cX10_isAsNoted 25 = .ok (.if_icmp .ge 42, 3) := dk_162 0 42 (dk_at dksX10_isAsNoted_1 3 rfl rfl)
theorem dX10_isAsNoted_28 : decode cX10_isAsNoted 28 = .ok (.iload_n 2, 1) := dk_28 (dk_at dksX10_isAsNoted_1 6 rfl rfl)
theorem dX10_isAsNoted_29 : decode cX10_isAsNoted 29 = .ok (.ifCond .eq 30, 3) := dk_153 0 30 (dk_at dksX10_isAsNoted_1 7 rfl rfl)
theorem dX10_isAsNoted_32 : decode cX10_isAsNoted 32 = .ok (.aload_n 0, 1) := dk_42 (dk_at dksX10_isAsNoted_1 10 rfl rfl)
theorem dX10_isAsNoted_33 : decode cX10_isAsNoted 33 = .ok (.getfield 94, 3) := dk_180 0 94 (dk_at dksX10_isAsNoted_1 11 rfl rfl)
theorem dX10_isAsNoted_36 : decode cX10_isAsNoted 36 = .ok (.iload 5, 2) := dk_21 5 (dk_at dksX10_isAsNoted_1 14 rfl rfl)
theorem dX10_isAsNoted_38 : decode cX10_isAsNoted 38 = .ok (.iaload, 1) := dk_46 (dk_at dksX10_isAsNoted_1 16 rfl rfl)
theorem dX10_isAsNoted_39 : decode cX10_isAsNoted 39 = .ok (.iload_n 3, 1) := dk_29 (dk_at dksX10_isAsNoted_1 17 rfl rfl)
theorem dX10_isAsNoted_40 : decode cX10_isAsNoted 40 = .ok (.if_icmp .ne 15, 3) := dk_160 0 15 (dk_at dksX10_isAsNoted_1 18 rfl rfl)
theorem dX10_isAsNoted_43 : decode cX10_isAsNoted 43 = .ok (.aload_n 0, 1) := dk_42 (dk_at dksX10_isAsNoted_1 21 rfl rfl)
theorem dX10_isAsNoted_44 : decode cX10_isAsNoted 44 = .ok (.getfield 97, 3) := dk_180 0 97 (dk_at dksX10_isAsNoted_2 0 rfl rfl)
theorem dX10_isAsNoted_47 : decode cX10_isAsNoted 47 = .ok (.iload 5, 2) := dk_21 5 (dk_at dksX10_isAsNoted_2 3 rfl rfl)
theorem dX10_isAsNoted_49 : decode cX10_isAsNoted 49 = .ok (.iaload, 1) := dk_46 (dk_at dksX10_isAsNoted_2 5 rfl rfl)
theorem dX10_isAsNoted_50 : decode cX10_isAsNoted 50 = .ok (.iload 4, 2) := dk_21 4 (dk_at dksX10_isAsNoted_2 6 rfl rfl)
theorem dX10_isAsNoted_52 : decode cX10_isAsNoted 52 = .ok (.if_icmp .ne 7, 3) := dk_160 0 7 (dk_at dksX10_isAsNoted_2 8 rfl rfl)
theorem dX10_isAsNoted_55 : decode cX10_isAsNoted 55 = .ok (.iconst 1, 1) := dk_4 (dk_at dksX10_isAsNoted_2 11 rfl rfl)
theorem dX10_isAsNoted_56 : decode cX10_isAsNoted 56 = .ok (.goto 4, 3) := dk_167 0 4 (dk_at dksX10_isAsNoted_2 12 rfl rfl)
theorem dX10_isAsNoted_59 : decode cX10_isAsNoted 59 = .ok (.iconst 0, 1) := dk_3 (dk_at dksX10_isAsNoted_2 15 rfl rfl)
theorem dX10_isAsNoted_60 : decode cX10_isAsNoted 60 = .ok (.istore_n 2, 1) := dk_61 (dk_at dksX10_isAsNoted_2 16 rfl rfl)
theorem dX10_isAsNoted_61 : decode cX10_isAsNoted 61 = .ok (.iinc 5 1, 3) := dk_132 5 1 (dk_at dksX10_isAsNoted_2 17 rfl rfl)
theorem dX10_isAsNoted_64 : decode cX10_isAsNoted 64 = .ok (.goto (-45), 3) := dk_167 255 211 (dk_at dksX10_isAsNoted_2 20 rfl rfl)
theorem dX10_isAsNoted_67 : decode cX10_isAsNoted 67 = .ok (.iload_n 3, 1) := dk_29 (dk_at dksX10_isAsNoted_2 23 rfl rfl)
theorem dX10_isAsNoted_68 : decode cX10_isAsNoted 68 = .ok (.ifCond .le 35, 3) := dk_158 0 35 (dk_at dksX10_isAsNoted_3 0 rfl rfl)
theorem dX10_isAsNoted_71 : decode cX10_isAsNoted 71 = .ok (.iload_n 3, 1) := dk_29 (dk_at dksX10_isAsNoted_3 3 rfl rfl)
theorem dX10_isAsNoted_72 : decode cX10_isAsNoted 72 = .ok (.bipush 10, 2) := dk_16 10 (dk_at dksX10_isAsNoted_3 4 rfl rfl)
theorem dX10_isAsNoted_74 : decode cX10_isAsNoted 74 = .ok (.irem, 1) := dk_112 (dk_at dksX10_isAsNoted_3 6 rfl rfl)
theorem dX10_isAsNoted_75 : decode cX10_isAsNoted 75 = .ok (.ifCond .ne 28, 3) := dk_154 0 28 (dk_at dksX10_isAsNoted_3 7 rfl rfl)
theorem dX10_isAsNoted_78 : decode cX10_isAsNoted 78 = .ok (.iload_n 3, 1) := dk_29 (dk_at dksX10_isAsNoted_3 10 rfl rfl)
theorem dX10_isAsNoted_79 : decode cX10_isAsNoted 79 = .ok (.bipush 10, 2) := dk_16 10 (dk_at dksX10_isAsNoted_3 11 rfl rfl)
theorem dX10_isAsNoted_81 : decode cX10_isAsNoted 81 = .ok (.idiv, 1) := dk_108 (dk_at dksX10_isAsNoted_3 13 rfl rfl)
theorem dX10_isAsNoted_82 : decode cX10_isAsNoted 82 = .ok (.iconst 5, 1) := dk_8 (dk_at dksX10_isAsNoted_3 14 rfl rfl)
theorem dX10_isAsNoted_83 : decode cX10_isAsNoted 83 = .ok (.if_icmp .gt 20, 3) := dk_163 0 20 (dk_at dksX10_isAsNoted_3 15 rfl rfl)
theorem dX10_isAsNoted_86 : decode cX10_isAsNoted 86 = .ok (.aload_n 0, 1) := dk_42 (dk_at dksX10_isAsNoted_3 18 rfl rfl)
theorem dX10_isAsNoted_87 : decode cX10_isAsNoted 87 = .ok (.getfield 103, 3) := dk_180 0 103 (dk_at dksX10_isAsNoted_3 19 rfl rfl)
theorem dX10_isAsNoted_90 : decode cX10_isAsNoted 90 = .ok (.iconst 5, 1) := dk_8 (dk_at dksX10_isAsNoted_3 22 rfl rfl)
theorem dX10_isAsNoted_91 : decode cX10_isAsNoted 91 = .ok (.iload_n 1, 1) := dk_27 (dk_at dksX10_isAsNoted_3 23 rfl rfl)
theorem dX10_isAsNoted_92 : decode cX10_isAsNoted 92 = .ok (.imul, 1) := dk_104 (dk_at dksX10_isAsNoted_4 0 rfl rfl)
theorem dX10_isAsNoted_93 : decode cX10_isAsNoted 93 = .ok (.iload_n 3, 1) := dk_29 (dk_at dksX10_isAsNoted_4 1 rfl rfl)
theorem dX10_isAsNoted_94 : decode cX10_isAsNoted 94 = .ok (.bipush 10, 2) := dk_16 10 (dk_at dksX10_isAsNoted_4 2 rfl rfl)
theorem dX10_isAsNoted_96 : decode cX10_isAsNoted 96 = .ok (.idiv, 1) := dk_108 (dk_at dksX10_isAsNoted_4 4 rfl rfl)
theorem dX10_isAsNoted_97 : decode cX10_isAsNoted 97 = .ok (.iadd, 1) := dk_96 (dk_at dksX10_isAsNoted_4 5 rfl rfl)
theorem dX10_isAsNoted_98 : decode cX10_isAsNoted 98 = .ok (.iconst 1, 1) := dk_4 (dk_at dksX10_isAsNoted_4 6 rfl rfl)
theorem dX10_isAsNoted_99 : decode cX10_isAsNoted 99 = .ok (.isub, 1) := dk_100 (dk_at dksX10_isAsNoted_4 7 rfl rfl)
theorem dX10_isAsNoted_100 : decode cX10_isAsNoted 100 = .ok (.iload 4, 2) := dk_21 4 (dk_at dksX10_isAsNoted_4 8 rfl rfl)
theorem dX10_isAsNoted_102 : decode cX10_isAsNoted 102 = .ok (.iastore, 1) := dk_79 (dk_at dksX10_isAsNoted_4 10 rfl rfl)
theorem dX10_isAsNoted_103 : decode cX10_isAsNoted 103 = .ok (.aload_n 0, 1) := dk_42 (dk_at dksX10_isAsNoted_4 11 rfl rfl)
theorem dX10_isAsNoted_104 : decode cX10_isAsNoted 104 = .ok (.invokevirtual 349, 3) := dk_182 1 93 (dk_at dksX10_isAsNoted_4 12 rfl rfl)
theorem dX10_isAsNoted_107 : decode cX10_isAsNoted 107 = .ok (.iinc 3 1, 3) := dk_132 3 1 (dk_at dksX10_isAsNoted_4 15 rfl rfl)
theorem dX10_isAsNoted_110 : decode cX10_isAsNoted 110 = .ok (.goto (-106), 3) := dk_167 255 150 (dk_at dksX10_isAsNoted_4 18 rfl rfl)
theorem dX10_isAsNoted_113 : decode cX10_isAsNoted 113 = .ok (.aload_n 0, 1) := dk_42 (dk_at dksX10_isAsNoted_4 21 rfl rfl)
theorem dX10_isAsNoted_114 : decode cX10_isAsNoted 114 = .ok (.iconst 0, 1) := dk_3 (dk_at dksX10_isAsNoted_4 22 rfl rfl)
theorem dX10_isAsNoted_115 : decode cX10_isAsNoted 115 = .ok (.invokevirtual 405, 3) := dk_182 1 149 (dk_at dksX10_isAsNoted_5 0 rfl rfl)
theorem dX10_isAsNoted_118 : decode cX10_isAsNoted 118 = .ok (.pop, 1) := dk_87 (dk_at dksX10_isAsNoted_5 3 rfl rfl)
theorem dX10_isAsNoted_119 : decode cX10_isAsNoted 119 = .ok (.iload_n 2, 1) := dk_28 (dk_at dksX10_isAsNoted_5 4 rfl rfl)
theorem dX10_isAsNoted_120 : decode cX10_isAsNoted 120 = .ok (.ireturn, 1) := dk_172 (dk_at dksX10_isAsNoted_5 5 rfl rfl)
abbrev cX10_tellFits : ByteArray := prog_22_method_89_code
def yX10_tellFits : MethodName := ⟨RX10, "tellFits", "()V"⟩
def dkwX10_tellFits_3 : List UInt8 := [4, 96, 181, 1, 179, 132, 2, 1, 167, 255, 197, 177]
abbrev dktX10_tellFits_3 : List UInt8 := dkwX10_tellFits_3 ++ []
def dkwX10_tellFits_2 : List UInt8 := [182, 1, 182, 154, 0, 6, 167, 0, 23, 42, 180, 0, 100, 42, 180, 1, 179, 28, 79, 42, 89, 180, 1, 179]
abbrev dktX10_tellFits_2 : List UInt8 := dkwX10_tellFits_2 ++ dktX10_tellFits_3
def dkwX10_tellFits_1 : List UInt8 := [163, 0, 59, 28, 27, 160, 0, 6, 167, 0, 45, 42, 180, 0, 59, 16, 27, 28, 79, 42, 42, 180, 1, 179]
abbrev dktX10_tellFits_1 : List UInt8 := dkwX10_tellFits_1 ++ dktX10_tellFits_2
def dkwX10_tellFits_0 : List UInt8 := [42, 3, 181, 1, 179, 42, 182, 1, 146, 42, 180, 0, 59, 16, 27, 46, 60, 16, 157, 61, 28, 16, 99]
abbrev dktX10_tellFits_0 : List UInt8 := dkwX10_tellFits_0 ++ dktX10_tellFits_1
theorem dksX10_tellFits_0 : cX10_tellFits.data.toList.drop 0 = dktX10_tellFits_0 := by decide +kernel
theorem dksX10_tellFits_1 : cX10_tellFits.data.toList.drop 23 = dktX10_tellFits_1 := dk_seg dksX10_tellFits_0 23 rfl rfl
theorem dksX10_tellFits_2 : cX10_tellFits.data.toList.drop 47 = dktX10_tellFits_2 := dk_seg dksX10_tellFits_1 24 rfl rfl
theorem dksX10_tellFits_3 : cX10_tellFits.data.toList.drop 71 = dktX10_tellFits_3 := dk_seg dksX10_tellFits_2 24 rfl rfl
theorem dX10_tellFits_0 : decode cX10_tellFits 0 = .ok (.aload_n 0, 1) := dk_42 (dk_at dksX10_tellFits_0 0 rfl rfl)
theorem dX10_tellFits_1 : decode cX10_tellFits 1 = .ok (.iconst 0, 1) := dk_3 (dk_at dksX10_tellFits_0 1 rfl rfl)
theorem dX10_tellFits_2 : decode cX10_tellFits 2 = .ok (.putfield 435, 3) := dk_181 1 179 (dk_at dksX10_tellFits_0 2 rfl rfl)
theorem dX10_tellFits_5 : decode cX10_tellFits 5 = .ok (.aload_n 0, 1) := dk_42 (dk_at dksX10_tellFits_0 5 rfl rfl)
theorem dX10_tellFits_6 : decode cX10_tellFits 6 = .ok (.invokevirtual 402, 3) := dk_182 1 146 (dk_at dksX10_tellFits_0 6 rfl rfl)
theorem dX10_tellFits_9 : decode cX10_tellFits 9 = .ok (.aload_n 0, 1) := dk_42 (dk_at dksX10_tellFits_0 9 rfl rfl)
theorem dX10_tellFits_10 : decode cX10_tellFits 10 = .ok (.getfield 59, 3) := dk_180 0 59 (dk_at dksX10_tellFits_0 10 rfl rfl)
theorem dX10_tellFits_13 : decode cX10_tellFits 13 = .ok (.bipush 27, 2) := dk_16 27 (dk_at dksX10_tellFits_0 13 rfl rfl)
theorem dX10_tellFits_15 : decode cX10_tellFits 15 = .ok (.iaload, 1) := dk_46 (dk_at dksX10_tellFits_0 15 rfl rfl)
theorem dX10_tellFits_16 : decode cX10_tellFits 16 = .ok (.istore_n 1, 1) := dk_60 (dk_at dksX10_tellFits_0 16 rfl rfl)
theorem dX10_tellFits_17 : decode cX10_tellFits 17 = .ok (.bipush (-99), 2) := dk_16 157 (dk_at dksX10_tellFits_0 17 rfl rfl)
theorem dX10_tellFits_19 : decode cX10_tellFits 19 = .ok (.istore_n 2, 1) := dk_61 (dk_at dksX10_tellFits_0 19 rfl rfl)
theorem dX10_tellFits_20 : decode cX10_tellFits 20 = .ok (.iload_n 2, 1) := dk_28 (dk_at dksX10_tellFits_0 20 rfl rfl)
theorem dX10_tellFits_21 : decode cX10_tellFits 21 = .ok (.bipush 99, 2) := dk_16 99 (dk_at dksX10_tellFits_0 21 rfl rfl)
theorem dX10_tellFits_23 : decode cX10_tellFits 23 = .ok (.if_icmp .gt 59, 3) := dk_163 0 59 (dk_at dksX10_tellFits_1 0 rfl rfl)
theorem dX10_tellFits_26 : decode cX10_tellFits 26 = .ok (.iload_n 2, 1) := dk_28 (dk_at dksX10_tellFits_1 3 rfl rfl)
theorem dX10_tellFits_27 : decode cX10_tellFits 27 = .ok (.iload_n 1, 1) := dk_27 (dk_at dksX10_tellFits_1 4 rfl rfl)
theorem dX10_tellFits_28 : decode cX10_tellFits 28 = .ok (.if_icmp .ne 6, 3) := dk_160 0 6 (dk_at dksX10_tellFits_1 5 rfl rfl)
theorem dX10_tellFits_31 : decode cX10_tellFits 31 = .ok (.goto 45, 3) := dk_167 0 45 (dk_at dksX10_tellFits_1 8 rfl rfl)
theorem dX10_tellFits_34 : decode cX10_tellFits 34 = .ok (.aload_n 0, 1) := dk_42 (dk_at dksX10_tellFits_1 11 rfl rfl)
theorem dX10_tellFits_35 : decode cX10_tellFits 35 = .ok (.getfield 59, 3) := dk_180 0 59 (dk_at dksX10_tellFits_1 12 rfl rfl)
theorem dX10_tellFits_38 : decode cX10_tellFits 38 = .ok (.bipush 27, 2) := dk_16 27 (dk_at dksX10_tellFits_1 15 rfl rfl)
theorem dX10_tellFits_40 : decode cX10_tellFits 40 = .ok (.iload_n 2, 1) := dk_28 (dk_at dksX10_tellFits_1 17 rfl rfl)
theorem dX10_tellFits_41 : decode cX10_tellFits 41 = .ok (.iastore, 1) := dk_79 (dk_at dksX10_tellFits_1 18 rfl rfl)
theorem dX10_tellFits_42 : decode cX10_tellFits 42 = .ok (.aload_n 0, 1) := dk_42 (dk_at dksX10_tellFits_1 19 rfl rfl)
theorem dX10_tellFits_43 : decode cX10_tellFits 43 = .ok (.aload_n 0, 1) := dk_42 (dk_at dksX10_tellFits_1 20 rfl rfl)
theorem dX10_tellFits_44 : decode cX10_tellFits 44 = .ok (.getfield 435, 3) := dk_180 1 179 (dk_at dksX10_tellFits_1 21 rfl rfl)
theorem dX10_tellFits_47 : decode cX10_tellFits 47 = .ok (.invokevirtual 438, 3) := dk_182 1 182 (dk_at dksX10_tellFits_2 0 rfl rfl)
theorem dX10_tellFits_50 : decode cX10_tellFits 50 = .ok (.ifCond .ne 6, 3) := dk_154 0 6 (dk_at dksX10_tellFits_2 3 rfl rfl)
theorem dX10_tellFits_53 : decode cX10_tellFits 53 = .ok (.goto 23, 3) := dk_167 0 23 (dk_at dksX10_tellFits_2 6 rfl rfl)
theorem dX10_tellFits_56 : decode cX10_tellFits 56 = .ok (.aload_n 0, 1) := dk_42 (dk_at dksX10_tellFits_2 9 rfl rfl)
theorem dX10_tellFits_57 : decode cX10_tellFits 57 = .ok (.getfield 100, 3) := dk_180 0 100 (dk_at dksX10_tellFits_2 10 rfl rfl)
theorem dX10_tellFits_60 : decode cX10_tellFits 60 = .ok (.aload_n 0, 1) := dk_42 (dk_at dksX10_tellFits_2 13 rfl rfl)
theorem dX10_tellFits_61 : decode cX10_tellFits 61 = .ok (.getfield 435, 3) := dk_180 1 179 (dk_at dksX10_tellFits_2 14 rfl rfl)
theorem dX10_tellFits_64 : decode cX10_tellFits 64 = .ok (.iload_n 2, 1) := dk_28 (dk_at dksX10_tellFits_2 17 rfl rfl)
theorem dX10_tellFits_65 : decode cX10_tellFits 65 = .ok (.iastore, 1) := dk_79 (dk_at dksX10_tellFits_2 18 rfl rfl)
theorem dX10_tellFits_66 : decode cX10_tellFits 66 = .ok (.aload_n 0, 1) := dk_42 (dk_at dksX10_tellFits_2 19 rfl rfl)
theorem dX10_tellFits_67 : decode cX10_tellFits 67 = .ok (.dup, 1) := dk_89 (dk_at dksX10_tellFits_2 20 rfl rfl)
theorem dX10_tellFits_68 : decode cX10_tellFits 68 = .ok (.getfield 435, 3) := dk_180 1 179 (dk_at dksX10_tellFits_2 21 rfl rfl)
theorem dX10_tellFits_71 : decode cX10_tellFits 71 = .ok (.iconst 1, 1) := dk_4 (dk_at dksX10_tellFits_3 0 rfl rfl)
theorem dX10_tellFits_72 : decode cX10_tellFits 72 = .ok (.iadd, 1) := dk_96 (dk_at dksX10_tellFits_3 1 rfl rfl)
theorem dX10_tellFits_73 : decode cX10_tellFits 73 = .ok (.putfield 435, 3) := dk_181 1 179 (dk_at dksX10_tellFits_3 2 rfl rfl)
theorem dX10_tellFits_76 : decode cX10_tellFits 76 = .ok (.iinc 2 1, 3) := dk_132 2 1 (dk_at dksX10_tellFits_3 5 rfl rfl)
theorem dX10_tellFits_79 : decode cX10_tellFits 79 = .ok (.goto (-59), 3) := dk_167 255 197 (dk_at dksX10_tellFits_3 8 rfl rfl)
theorem dX10_tellFits_82 : decode cX10_tellFits 82 = .ok (.return_, 1) := dk_177 (dk_at dksX10_tellFits_3 11 rfl rfl)
abbrev cX10_look : ByteArray := prog_22_method_92_code
def yX10_look : MethodName := ⟨RX10, "look", "(I)I"⟩
def dkwX10_look_3 : List UInt8 := [154, 0, 7, 28, 167, 0, 4, 29, 172]
abbrev dktX10_look_3 : List UInt8 := dkwX10_look_3 ++ []
def dkwX10_look_2 : List UInt8 := [163, 0, 6, 167, 0, 14, 16, 10, 21, 4, 4, 96, 104, 61, 21, 5, 62, 132, 4, 1, 167, 255, 219, 27]
abbrev dktX10_look_2 : List UInt8 := dkwX10_look_2 ++ dktX10_look_3
def dkwX10_look_1 : List UInt8 := [2, 61, 3, 62, 3, 54, 4, 21, 4, 8, 162, 0, 37, 42, 21, 4, 182, 1, 188, 54, 5, 21, 5, 29]
abbrev dktX10_look_1 : List UInt8 := dkwX10_look_1 ++ dktX10_look_2
def dkwX10_look_0 : List UInt8 := [42, 182, 0, 247, 27, 133, 9, 10, 184, 1, 102, 154, 0, 9, 42, 4, 182, 0, 250, 172, 42, 182, 1, 185]
abbrev dktX10_look_0 : List UInt8 := dkwX10_look_0 ++ dktX10_look_1
theorem dksX10_look_0 : cX10_look.data.toList.drop 0 = dktX10_look_0 := by decide +kernel
theorem dksX10_look_1 : cX10_look.data.toList.drop 24 = dktX10_look_1 := dk_seg dksX10_look_0 24 rfl rfl
theorem dksX10_look_2 : cX10_look.data.toList.drop 48 = dktX10_look_2 := dk_seg dksX10_look_1 24 rfl rfl
theorem dksX10_look_3 : cX10_look.data.toList.drop 72 = dktX10_look_3 := dk_seg dksX10_look_2 24 rfl rfl
theorem dX10_look_0 : decode cX10_look 0 = .ok (.aload_n 0, 1) := dk_42 (dk_at dksX10_look_0 0 rfl rfl)
theorem dX10_look_1 : decode cX10_look 1 = .ok (.invokevirtual 247, 3) := dk_182 0 247 (dk_at dksX10_look_0 1 rfl rfl)
theorem dX10_look_4 : decode cX10_look 4 = .ok (.iload_n 1, 1) := dk_27 (dk_at dksX10_look_0 4 rfl rfl)
theorem dX10_look_5 : decode cX10_look 5 = .ok (.i2l, 1) := dk_133 (dk_at dksX10_look_0 5 rfl rfl)
theorem dX10_look_6 : decode cX10_look 6 = .ok (.lconst 0, 1) := dk_9 (dk_at dksX10_look_0 6 rfl rfl)
theorem dX10_look_7 : decode cX10_look 7 = .ok (.lconst 1, 1) := dk_10 (dk_at dksX10_look_0 7 rfl rfl)
theorem dX10_look_8 : decode cX10_look 8 = .ok (.invokestatic 358, 3) := dk_184 1 102 (dk_at dksX10_look_0 8 rfl rfl)
theorem dX10_look_11 : decode cX10_look 11 = .ok (.ifCond .ne 9, 3) := dk_154 0 9 (dk_at dksX10_look_0 11 rfl rfl)
theorem dX10_look_14 : decode cX10_look 14 = .ok (.aload_n 0, 1) := dk_42 (dk_at dksX10_look_0 14 rfl rfl)
theorem dX10_look_15 : decode cX10_look 15 = .ok (.iconst 1, 1) := dk_4 (dk_at dksX10_look_0 15 rfl rfl)
theorem dX10_look_16 : decode cX10_look 16 = .ok (.invokevirtual 250, 3) := dk_182 0 250 (dk_at dksX10_look_0 16 rfl rfl)
theorem dX10_look_19 : decode cX10_look 19 = .ok (.ireturn, 1) := dk_172 (dk_at dksX10_look_0 19 rfl rfl)
theorem dX10_look_20 : decode cX10_look 20 = .ok (.aload_n 0, 1) := dk_42 (dk_at dksX10_look_0 20 rfl rfl)
theorem dX10_look_21 : decode cX10_look 21 = .ok (.invokevirtual 441, 3) := dk_182 1 185 (dk_at dksX10_look_0 21 rfl rfl)
theorem dX10_look_24 : decode cX10_look 24 = .ok (.iconst (-1), 1) := dk_2 (dk_at dksX10_look_1 0 rfl rfl)
theorem dX10_look_25 : decode cX10_look 25 = .ok (.istore_n 2, 1) := dk_61 (dk_at dksX10_look_1 1 rfl rfl)
theorem dX10_look_26 : decode cX10_look 26 = .ok (.iconst 0, 1) := dk_3 (dk_at dksX10_look_1 2 rfl rfl)
theorem dX10_look_27 : decode cX10_look 27 = .ok (.istore_n 3, 1) := dk_62 (dk_at dksX10_look_1 3 rfl rfl)
theorem dX10_look_28 : decode cX10_look 28 = .ok (.iconst 0, 1) := dk_3 (dk_at dksX10_look_1 4 rfl rfl)
theorem dX10_look_29 : decode cX10_look 29 = .ok (.istore 4, 2) := dk_54 4 (dk_at dksX10_look_1 5 rfl rfl)
theorem dX10_look_31 : decode cX10_look 31 = .ok (.iload 4, 2) := dk_21 4 (dk_at dksX10_look_1 7 rfl rfl)
theorem dX10_look_33 : decode cX10_look 33 = .ok (.iconst 5, 1) := dk_8 (dk_at dksX10_look_1 9 rfl rfl)
theorem dX10_look_34 : decode cX10_look 34 = .ok (.if_icmp .ge 37, 3) := dk_162 0 37 (dk_at dksX10_look_1 10 rfl rfl)
theorem dX10_look_37 : decode cX10_look 37 = .ok (.aload_n 0, 1) := dk_42 (dk_at dksX10_look_1 13 rfl rfl)
theorem dX10_look_38 : decode cX10_look 38 = .ok (.iload 4, 2) := dk_21 4 (dk_at dksX10_look_1 14 rfl rfl)
theorem dX10_look_40 : decode cX10_look 40 = .ok (.invokevirtual 444, 3) := dk_182 1 188 (dk_at dksX10_look_1 16 rfl rfl)
theorem dX10_look_43 : decode cX10_look 43 = .ok (.istore 5, 2) := dk_54 5 (dk_at dksX10_look_1 19 rfl rfl)
theorem dX10_look_45 : decode cX10_look 45 = .ok (.iload 5, 2) := dk_21 5 (dk_at dksX10_look_1 21 rfl rfl)
theorem dX10_look_47 : decode cX10_look 47 = .ok (.iload_n 3, 1) := dk_29 (dk_at dksX10_look_1 23 rfl rfl)
theorem dX10_look_48 : decode cX10_look 48 = .ok (.if_icmp .gt 6, 3) := dk_163 0 6 (dk_at dksX10_look_2 0 rfl rfl)
theorem dX10_look_51 : decode cX10_look 51 = .ok (.goto 14, 3) := dk_167 0 14 (dk_at dksX10_look_2 3 rfl rfl)
theorem dX10_look_54 : decode cX10_look 54 = .ok (.bipush 10, 2) := dk_16 10 (dk_at dksX10_look_2 6 rfl rfl)
theorem dX10_look_56 : decode cX10_look 56 = .ok (.iload 4, 2) := dk_21 4 (dk_at dksX10_look_2 8 rfl rfl)
theorem dX10_look_58 : decode cX10_look 58 = .ok (.iconst 1, 1) := dk_4 (dk_at dksX10_look_2 10 rfl rfl)
theorem dX10_look_59 : decode cX10_look 59 = .ok (.iadd, 1) := dk_96 (dk_at dksX10_look_2 11 rfl rfl)
theorem dX10_look_60 : decode cX10_look 60 = .ok (.imul, 1) := dk_104 (dk_at dksX10_look_2 12 rfl rfl)
theorem dX10_look_61 : decode cX10_look 61 = .ok (.istore_n 2, 1) := dk_61 (dk_at dksX10_look_2 13 rfl rfl)
theorem dX10_look_62 : decode cX10_look 62 = .ok (.iload 5, 2) := dk_21 5 (dk_at dksX10_look_2 14 rfl rfl)
theorem dX10_look_64 : decode cX10_look 64 = .ok (.istore_n 3, 1) := dk_62 (dk_at dksX10_look_2 16 rfl rfl)
theorem dX10_look_65 : decode cX10_look 65 = .ok (.iinc 4 1, 3) := dk_132 4 1 (dk_at dksX10_look_2 17 rfl rfl)
theorem dX10_look_68 : decode cX10_look 68 = .ok (.goto (-37), 3) := dk_167 255 219 (dk_at dksX10_look_2 20 rfl rfl)
theorem dX10_look_71 : decode cX10_look 71 = .ok (.iload_n 1, 1) := dk_27 (dk_at dksX10_look_2 23 rfl rfl)
theorem dX10_look_72 : decode cX10_look 72 = .ok (.ifCond .ne 7, 3) := dk_154 0 7 (dk_at dksX10_look_3 0 rfl rfl)
theorem dX10_look_75 : decode cX10_look 75 = .ok (.iload_n 2, 1) := dk_28 (dk_at dksX10_look_3 3 rfl rfl)
theorem dX10_look_76 : decode cX10_look 76 = .ok (.goto 4, 3) := dk_167 0 4 (dk_at dksX10_look_3 4 rfl rfl)
theorem dX10_look_79 : decode cX10_look 79 = .ok (.iload_n 3, 1) := dk_29 (dk_at dksX10_look_3 7 rfl rfl)
theorem dX10_look_80 : decode cX10_look 80 = .ok (.ireturn, 1) := dk_172 (dk_at dksX10_look_3 8 rfl rfl)
abbrev cX10_unlikeAt : ByteArray := prog_22_method_91_code
def yX10_unlikeAt : MethodName := ⟨RX10, "unlikeAt", "(I)I"⟩
def dkwX10_unlikeAt_3 : List UInt8 := [4, 167, 0, 4, 3, 96, 61, 132, 3, 1, 167, 255, 178, 28, 172]
abbrev dktX10_unlikeAt_3 : List UInt8 := dkwX10_unlikeAt_3 ++ []
def dkwX10_unlikeAt_2 : List UInt8 := [96, 46, 159, 0, 7, 4, 167, 0, 4, 3, 54, 4, 132, 5, 1, 167, 255, 211, 28, 21, 4, 153, 0, 7]
abbrev dktX10_unlikeAt_2 : List UInt8 := dkwX10_unlikeAt_2 ++ dktX10_unlikeAt_3
def dkwX10_unlikeAt_1 : List UInt8 := [21, 4, 153, 0, 40, 42, 180, 0, 103, 8, 21, 5, 104, 27, 96, 46, 42, 180, 0, 103, 8, 29, 104, 27]
abbrev dktX10_unlikeAt_1 : List UInt8 := dkwX10_unlikeAt_1 ++ dktX10_unlikeAt_2
def dkwX10_unlikeAt_0 : List UInt8 := [3, 61, 3, 62, 29, 42, 180, 1, 179, 162, 0, 76, 4, 54, 4, 3, 54, 5, 21, 5, 29, 162, 0, 45]
abbrev dktX10_unlikeAt_0 : List UInt8 := dkwX10_unlikeAt_0 ++ dktX10_unlikeAt_1
theorem dksX10_unlikeAt_0 : cX10_unlikeAt.data.toList.drop 0 = dktX10_unlikeAt_0 := by decide +kernel
theorem dksX10_unlikeAt_1 : cX10_unlikeAt.data.toList.drop 24 = dktX10_unlikeAt_1 := dk_seg dksX10_unlikeAt_0 24 rfl rfl
theorem dksX10_unlikeAt_2 : cX10_unlikeAt.data.toList.drop 48 = dktX10_unlikeAt_2 := dk_seg dksX10_unlikeAt_1 24 rfl rfl
theorem dksX10_unlikeAt_3 : cX10_unlikeAt.data.toList.drop 72 = dktX10_unlikeAt_3 := dk_seg dksX10_unlikeAt_2 24 rfl rfl
theorem dX10_unlikeAt_0 : decode cX10_unlikeAt 0 = .ok (.iconst 0, 1) := dk_3 (dk_at dksX10_unlikeAt_0 0 rfl rfl)
theorem dX10_unlikeAt_1 : decode cX10_unlikeAt 1 = .ok (.istore_n 2, 1) := dk_61 (dk_at dksX10_unlikeAt_0 1 rfl rfl)
theorem dX10_unlikeAt_2 : decode cX10_unlikeAt 2 = .ok (.iconst 0, 1) := dk_3 (dk_at dksX10_unlikeAt_0 2 rfl rfl)
theorem dX10_unlikeAt_3 : decode cX10_unlikeAt 3 = .ok (.istore_n 3, 1) := dk_62 (dk_at dksX10_unlikeAt_0 3 rfl rfl)
theorem dX10_unlikeAt_4 : decode cX10_unlikeAt 4 = .ok (.iload_n 3, 1) := dk_29 (dk_at dksX10_unlikeAt_0 4 rfl rfl)
theorem dX10_unlikeAt_5 : decode cX10_unlikeAt 5 = .ok (.aload_n 0, 1) := dk_42 (dk_at dksX10_unlikeAt_0 5 rfl rfl)
theorem dX10_unlikeAt_6 : decode cX10_unlikeAt 6 = .ok (.getfield 435, 3) := dk_180 1 179 (dk_at dksX10_unlikeAt_0 6 rfl rfl)
theorem dX10_unlikeAt_9 : decode cX10_unlikeAt 9 = .ok (.if_icmp .ge 76, 3) := dk_162 0 76 (dk_at dksX10_unlikeAt_0 9 rfl rfl)
theorem dX10_unlikeAt_12 : decode cX10_unlikeAt 12 = .ok (.iconst 1, 1) := dk_4 (dk_at dksX10_unlikeAt_0 12 rfl rfl)
theorem dX10_unlikeAt_13 : decode cX10_unlikeAt 13 = .ok (.istore 4, 2) := dk_54 4 (dk_at dksX10_unlikeAt_0 13 rfl rfl)
theorem dX10_unlikeAt_15 : decode cX10_unlikeAt 15 = .ok (.iconst 0, 1) := dk_3 (dk_at dksX10_unlikeAt_0 15 rfl rfl)
theorem dX10_unlikeAt_16 : decode cX10_unlikeAt 16 = .ok (.istore 5, 2) := dk_54 5 (dk_at dksX10_unlikeAt_0 16 rfl rfl)
theorem dX10_unlikeAt_18 : decode cX10_unlikeAt 18 = .ok (.iload 5, 2) := dk_21 5 (dk_at dksX10_unlikeAt_0 18 rfl rfl)
theorem dX10_unlikeAt_20 : decode cX10_unlikeAt 20 = .ok (.iload_n 3, 1) := dk_29 (dk_at dksX10_unlikeAt_0 20 rfl rfl)
theorem dX10_unlikeAt_21 : decode cX10_unlikeAt 21 = .ok (.if_icmp .ge 45, 3) := dk_162 0 45 (dk_at dksX10_unlikeAt_0 21 rfl rfl)
theorem dX10_unlikeAt_24 : decode cX10_unlikeAt 24 = .ok (.iload 4, 2) := dk_21 4 (dk_at dksX10_unlikeAt_1 0 rfl rfl)
theorem dX10_unlikeAt_26 : decode cX10_unlikeAt 26 = .ok (.ifCond .eq 40, 3) := dk_153 0 40 (dk_at dksX10_unlikeAt_1 2 rfl rfl)
theorem dX10_unlikeAt_29 : decode cX10_unlikeAt 29 = .ok (.aload_n 0, 1) := dk_42 (dk_at dksX10_unlikeAt_1 5 rfl rfl)
theorem dX10_unlikeAt_30 : decode cX10_unlikeAt 30 = .ok (.getfield 103, 3) := dk_180 0 103 (dk_at dksX10_unlikeAt_1 6 rfl rfl)
theorem dX10_unlikeAt_33 : decode cX10_unlikeAt 33 = .ok (.iconst 5, 1) := dk_8 (dk_at dksX10_unlikeAt_1 9 rfl rfl)
theorem dX10_unlikeAt_34 : decode cX10_unlikeAt 34 = .ok (.iload 5, 2) := dk_21 5 (dk_at dksX10_unlikeAt_1 10 rfl rfl)
theorem dX10_unlikeAt_36 : decode cX10_unlikeAt 36 = .ok (.imul, 1) := dk_104 (dk_at dksX10_unlikeAt_1 12 rfl rfl)
theorem dX10_unlikeAt_37 : decode cX10_unlikeAt 37 = .ok (.iload_n 1, 1) := dk_27 (dk_at dksX10_unlikeAt_1 13 rfl rfl)
theorem dX10_unlikeAt_38 : decode cX10_unlikeAt 38 = .ok (.iadd, 1) := dk_96 (dk_at dksX10_unlikeAt_1 14 rfl rfl)
theorem dX10_unlikeAt_39 : decode cX10_unlikeAt 39 = .ok (.iaload, 1) := dk_46 (dk_at dksX10_unlikeAt_1 15 rfl rfl)
theorem dX10_unlikeAt_40 : decode cX10_unlikeAt 40 = .ok (.aload_n 0, 1) := dk_42 (dk_at dksX10_unlikeAt_1 16 rfl rfl)
theorem dX10_unlikeAt_41 : decode cX10_unlikeAt 41 = .ok (.getfield 103, 3) := dk_180 0 103 (dk_at dksX10_unlikeAt_1 17 rfl rfl)
theorem dX10_unlikeAt_44 : decode cX10_unlikeAt 44 = .ok (.iconst 5, 1) := dk_8 (dk_at dksX10_unlikeAt_1 20 rfl rfl)
theorem dX10_unlikeAt_45 : decode cX10_unlikeAt 45 = .ok (.iload_n 3, 1) := dk_29 (dk_at dksX10_unlikeAt_1 21 rfl rfl)
theorem dX10_unlikeAt_46 : decode cX10_unlikeAt 46 = .ok (.imul, 1) := dk_104 (dk_at dksX10_unlikeAt_1 22 rfl rfl)
theorem dX10_unlikeAt_47 : decode cX10_unlikeAt 47 = .ok (.iload_n 1, 1) := dk_27 (dk_at dksX10_unlikeAt_1 23 rfl rfl)
theorem dX10_unlikeAt_48 : decode cX10_unlikeAt 48 = .ok (.iadd, 1) := dk_96 (dk_at dksX10_unlikeAt_2 0 rfl rfl)
theorem dX10_unlikeAt_49 : decode cX10_unlikeAt 49 = .ok (.iaload, 1) := dk_46 (dk_at dksX10_unlikeAt_2 1 rfl rfl)
theorem dX10_unlikeAt_50 : decode cX10_unlikeAt 50 = .ok (.if_icmp .eq 7, 3) := dk_159 0 7 (dk_at dksX10_unlikeAt_2 2 rfl rfl)
theorem dX10_unlikeAt_53 : decode cX10_unlikeAt 53 = .ok (.iconst 1, 1) := dk_4 (dk_at dksX10_unlikeAt_2 5 rfl rfl)
theorem dX10_unlikeAt_54 : decode cX10_unlikeAt 54 = .ok (.goto 4, 3) := dk_167 0 4 (dk_at dksX10_unlikeAt_2 6 rfl rfl)
theorem dX10_unlikeAt_57 : decode cX10_unlikeAt 57 = .ok (.iconst 0, 1) := dk_3 (dk_at dksX10_unlikeAt_2 9 rfl rfl)
theorem dX10_unlikeAt_58 : decode cX10_unlikeAt 58 = .ok (.istore 4, 2) := dk_54 4 (dk_at dksX10_unlikeAt_2 10 rfl rfl)
theorem dX10_unlikeAt_60 : decode cX10_unlikeAt 60 = .ok (.iinc 5 1, 3) := dk_132 5 1 (dk_at dksX10_unlikeAt_2 12 rfl rfl)
theorem dX10_unlikeAt_63 : decode cX10_unlikeAt 63 = .ok (.goto (-45), 3) := dk_167 255 211 (dk_at dksX10_unlikeAt_2 15 rfl rfl)
theorem dX10_unlikeAt_66 : decode cX10_unlikeAt 66 = .ok (.iload_n 2, 1) := dk_28 (dk_at dksX10_unlikeAt_2 18 rfl rfl)
theorem dX10_unlikeAt_67 : decode cX10_unlikeAt 67 = .ok (.iload 4, 2) := dk_21 4 (dk_at dksX10_unlikeAt_2 19 rfl rfl)
theorem dX10_unlikeAt_69 : decode cX10_unlikeAt 69 = .ok (.ifCond .eq 7, 3) := dk_153 0 7 (dk_at dksX10_unlikeAt_2 21 rfl rfl)
theorem dX10_unlikeAt_72 : decode cX10_unlikeAt 72 = .ok (.iconst 1, 1) := dk_4 (dk_at dksX10_unlikeAt_3 0 rfl rfl)
theorem dX10_unlikeAt_73 : decode cX10_unlikeAt 73 = .ok (.goto 4, 3) := dk_167 0 4 (dk_at dksX10_unlikeAt_3 1 rfl rfl)
theorem dX10_unlikeAt_76 : decode cX10_unlikeAt 76 = .ok (.iconst 0, 1) := dk_3 (dk_at dksX10_unlikeAt_3 4 rfl rfl)
theorem dX10_unlikeAt_77 : decode cX10_unlikeAt 77 = .ok (.iadd, 1) := dk_96 (dk_at dksX10_unlikeAt_3 5 rfl rfl)
theorem dX10_unlikeAt_78 : decode cX10_unlikeAt 78 = .ok (.istore_n 2, 1) := dk_61 (dk_at dksX10_unlikeAt_3 6 rfl rfl)
theorem dX10_unlikeAt_79 : decode cX10_unlikeAt 79 = .ok (.iinc 3 1, 3) := dk_132 3 1 (dk_at dksX10_unlikeAt_3 7 rfl rfl)
theorem dX10_unlikeAt_82 : decode cX10_unlikeAt 82 = .ok (.goto (-78), 3) := dk_167 255 178 (dk_at dksX10_unlikeAt_3 10 rfl rfl)
theorem dX10_unlikeAt_85 : decode cX10_unlikeAt 85 = .ok (.iload_n 2, 1) := dk_28 (dk_at dksX10_unlikeAt_3 13 rfl rfl)
theorem dX10_unlikeAt_86 : decode cX10_unlikeAt 86 = .ok (.ireturn, 1) := dk_172 (dk_at dksX10_unlikeAt_3 14 rfl rfl)
abbrev cX10_forget : ByteArray := prog_22_method_93_code
def yX10_forget : MethodName := ⟨RX10, "forget", "()V"⟩
def dkwX10_forget_0 : List UInt8 := [42, 182, 0, 247, 42, 3, 181, 1, 25, 177]
abbrev dktX10_forget_0 : List UInt8 := dkwX10_forget_0 ++ []
theorem dksX10_forget_0 : cX10_forget.data.toList.drop 0 = dktX10_forget_0 := by decide +kernel
theorem dX10_forget_0 : decode cX10_forget 0 = .ok (.aload_n 0, 1) := dk_42 (dk_at dksX10_forget_0 0 rfl rfl)
theorem dX10_forget_1 : decode cX10_forget 1 = .ok (.invokevirtual 247, 3) := dk_182 0 247 (dk_at dksX10_forget_0 1 rfl rfl)
theorem dX10_forget_4 : decode cX10_forget 4 = .ok (.aload_n 0, 1) := dk_42 (dk_at dksX10_forget_0 4 rfl rfl)
theorem dX10_forget_5 : decode cX10_forget 5 = .ok (.iconst 0, 1) := dk_3 (dk_at dksX10_forget_0 5 rfl rfl)
theorem dX10_forget_6 : decode cX10_forget 6 = .ok (.putfield 281, 3) := dk_181 1 25 (dk_at dksX10_forget_0 6 rfl rfl)
theorem dX10_forget_9 : decode cX10_forget 9 = .ok (.return_, 1) := dk_177 (dk_at dksX10_forget_0 9 rfl rfl)
abbrev cX10_storms : ByteArray := prog_22_method_94_code
def yX10_storms : MethodName := ⟨RX10, "storms", "(II)I"⟩
def dkwX10_storms_6 : List UInt8 := [3, 182, 1, 149, 87, 132, 4, 1, 167, 255, 150, 29, 172]
abbrev dktX10_storms_6 : List UInt8 := dkwX10_storms_6 ++ []
def dkwX10_storms_5 : List UInt8 := [42, 180, 0, 88, 16, 7, 46, 160, 0, 8, 21, 5, 167, 0, 4, 3, 96, 62, 42, 3, 181, 1, 42, 42]
abbrev dktX10_storms_5 : List UInt8 := dkwX10_storms_5 ++ dktX10_storms_6
def dkwX10_storms_4 : List UInt8 := [27, 181, 1, 42, 42, 21, 4, 181, 1, 45, 42, 16, 80, 182, 1, 131, 29, 42, 180, 0, 59, 16, 7, 46]
abbrev dktX10_storms_4 : List UInt8 := dkwX10_storms_4 ++ dktX10_storms_5
def dkwX10_storms_3 : List UInt8 := [184, 0, 240, 153, 0, 7, 28, 167, 0, 7, 16, 10, 28, 100, 104, 54, 5, 132, 6, 1, 167, 255, 224, 42]
abbrev dktX10_storms_3 : List UInt8 := dkwX10_storms_3 ++ dktX10_storms_4
def dkwX10_storms_2 : List UInt8 := [27, 120, 162, 0, 104, 4, 54, 5, 3, 54, 6, 21, 6, 27, 162, 0, 32, 21, 5, 21, 4, 21, 6]
abbrev dktX10_storms_2 : List UInt8 := dkwX10_storms_2 ++ dktX10_storms_3
def dkwX10_storms_1 : List UInt8 := [184, 1, 102, 154, 0, 9, 42, 4, 182, 0, 250, 172, 3, 62, 42, 182, 1, 146, 3, 54, 4, 21, 4, 4]
abbrev dktX10_storms_1 : List UInt8 := dkwX10_storms_1 ++ dktX10_storms_2
def dkwX10_storms_0 : List UInt8 := [42, 182, 0, 247, 27, 133, 10, 20, 1, 142, 184, 1, 102, 153, 0, 15, 28, 133, 9, 20, 1, 191]
abbrev dktX10_storms_0 : List UInt8 := dkwX10_storms_0 ++ dktX10_storms_1
theorem dksX10_storms_0 : cX10_storms.data.toList.drop 0 = dktX10_storms_0 := by decide +kernel
theorem dksX10_storms_1 : cX10_storms.data.toList.drop 22 = dktX10_storms_1 := dk_seg dksX10_storms_0 22 rfl rfl
theorem dksX10_storms_2 : cX10_storms.data.toList.drop 46 = dktX10_storms_2 := dk_seg dksX10_storms_1 24 rfl rfl
theorem dksX10_storms_3 : cX10_storms.data.toList.drop 69 = dktX10_storms_3 := dk_seg dksX10_storms_2 23 rfl rfl
theorem dksX10_storms_4 : cX10_storms.data.toList.drop 93 = dktX10_storms_4 := dk_seg dksX10_storms_3 24 rfl rfl
theorem dksX10_storms_5 : cX10_storms.data.toList.drop 117 = dktX10_storms_5 := dk_seg dksX10_storms_4 24 rfl rfl
theorem dksX10_storms_6 : cX10_storms.data.toList.drop 141 = dktX10_storms_6 := dk_seg dksX10_storms_5 24 rfl rfl
theorem dX10_storms_0 : decode cX10_storms 0 = .ok (.aload_n 0, 1) := dk_42 (dk_at dksX10_storms_0 0 rfl rfl)
theorem dX10_storms_1 : decode cX10_storms 1 = .ok (.invokevirtual 247, 3) := dk_182 0 247 (dk_at dksX10_storms_0 1 rfl rfl)
theorem dX10_storms_4 : decode cX10_storms 4 = .ok (.iload_n 1, 1) := dk_27 (dk_at dksX10_storms_0 4 rfl rfl)
theorem dX10_storms_5 : decode cX10_storms 5 = .ok (.i2l, 1) := dk_133 (dk_at dksX10_storms_0 5 rfl rfl)
theorem dX10_storms_6 : decode cX10_storms 6 = .ok (.lconst 1, 1) := dk_10 (dk_at dksX10_storms_0 6 rfl rfl)
theorem dX10_storms_7 : decode cX10_storms 7 = .ok (.ldc2_w 398, 3) := dk_20 1 142 (dk_at dksX10_storms_0 7 rfl rfl)
theorem dX10_storms_10 : decode cX10_storms 10 = .ok (.invokestatic 358, 3) := dk_184 1 102 (dk_at dksX10_storms_0 10 rfl rfl)
theorem dX10_storms_13 : decode cX10_storms 13 = .ok (.ifCond .eq 15, 3) := dk_153 0 15 (dk_at dksX10_storms_0 13 rfl rfl)
theorem dX10_storms_16 : decode cX10_storms 16 = .ok (.iload_n 2, 1) := dk_28 (dk_at dksX10_storms_0 16 rfl rfl)
theorem dX10_storms_17 : decode cX10_storms 17 = .ok (.i2l, 1) := dk_133 (dk_at dksX10_storms_0 17 rfl rfl)
theorem dX10_storms_18 : decode cX10_storms 18 = .ok (.lconst 0, 1) := dk_9 (dk_at dksX10_storms_0 18 rfl rfl)
theorem dX10_storms_19 : decode cX10_storms 19 = .ok (.ldc2_w 447, 3) := dk_20 1 191 (dk_at dksX10_storms_0 19 rfl rfl)
theorem dX10_storms_22 : decode cX10_storms 22 = .ok (.invokestatic 358, 3) := dk_184 1 102 (dk_at dksX10_storms_1 0 rfl rfl)
theorem dX10_storms_25 : decode cX10_storms 25 = .ok (.ifCond .ne 9, 3) := dk_154 0 9 (dk_at dksX10_storms_1 3 rfl rfl)
theorem dX10_storms_28 : decode cX10_storms 28 = .ok (.aload_n 0, 1) := dk_42 (dk_at dksX10_storms_1 6 rfl rfl)
theorem dX10_storms_29 : decode cX10_storms 29 = .ok (.iconst 1, 1) := dk_4 (dk_at dksX10_storms_1 7 rfl rfl)
theorem dX10_storms_30 : decode cX10_storms 30 = .ok (.invokevirtual 250, 3) := dk_182 0 250 (dk_at dksX10_storms_1 8 rfl rfl)
theorem dX10_storms_33 : decode cX10_storms 33 = .ok (.ireturn, 1) := dk_172 (dk_at dksX10_storms_1 11 rfl rfl)
theorem dX10_storms_34 : decode cX10_storms 34 = .ok (.iconst 0, 1) := dk_3 (dk_at dksX10_storms_1 12 rfl rfl)
theorem dX10_storms_35 : decode cX10_storms 35 = .ok (.istore_n 3, 1) := dk_62 (dk_at dksX10_storms_1 13 rfl rfl)
theorem dX10_storms_36 : decode cX10_storms 36 = .ok (.aload_n 0, 1) := dk_42 (dk_at dksX10_storms_1 14 rfl rfl)
theorem dX10_storms_37 : decode cX10_storms 37 = .ok (.invokevirtual 402, 3) := dk_182 1 146 (dk_at dksX10_storms_1 15 rfl rfl)
theorem dX10_storms_40 : decode cX10_storms 40 = .ok (.iconst 0, 1) := dk_3 (dk_at dksX10_storms_1 18 rfl rfl)
theorem dX10_storms_41 : decode cX10_storms 41 = .ok (.istore 4, 2) := dk_54 4 (dk_at dksX10_storms_1 19 rfl rfl)
theorem dX10_storms_43 : decode cX10_storms 43 = .ok (.iload 4, 2) := dk_21 4 (dk_at dksX10_storms_1 21 rfl rfl)
theorem dX10_storms_45 : decode cX10_storms 45 = .ok (.iconst 1, 1) := dk_4 (dk_at dksX10_storms_1 23 rfl rfl)
theorem dX10_storms_46 : decode cX10_storms 46 = .ok (.iload_n 1, 1) := dk_27 (dk_at dksX10_storms_2 0 rfl rfl)
theorem dX10_storms_47 : decode cX10_storms 47 = .ok (.ishl, 1) := dk_120 (dk_at dksX10_storms_2 1 rfl rfl)
theorem dX10_storms_48 : decode cX10_storms 48 = .ok (.if_icmp .ge 104, 3) := dk_162 0 104 (dk_at dksX10_storms_2 2 rfl rfl)
theorem dX10_storms_51 : decode cX10_storms 51 = .ok (.iconst 1, 1) := dk_4 (dk_at dksX10_storms_2 5 rfl rfl)
theorem dX10_storms_52 : decode cX10_storms 52 = .ok (.istore 5, 2) := dk_54 5 (dk_at dksX10_storms_2 6 rfl rfl)
theorem dX10_storms_54 : decode cX10_storms 54 = .ok (.iconst 0, 1) := dk_3 (dk_at dksX10_storms_2 8 rfl rfl)
theorem dX10_storms_55 : decode cX10_storms 55 = .ok (.istore 6, 2) := dk_54 6 (dk_at dksX10_storms_2 9 rfl rfl)
theorem dX10_storms_57 : decode cX10_storms 57 = .ok (.iload 6, 2) := dk_21 6 (dk_at dksX10_storms_2 11 rfl rfl)
theorem dX10_storms_59 : decode cX10_storms 59 = .ok (.iload_n 1, 1) := dk_27 (dk_at dksX10_storms_2 13 rfl rfl)
theorem dX10_storms_60 : decode cX10_storms 60 = .ok (.if_icmp .ge 32, 3) := dk_162 0 32 (dk_at dksX10_storms_2 14 rfl rfl)
theorem dX10_storms_63 : decode cX10_storms 63 = .ok (.iload 5, 2) := dk_21 5 (dk_at dksX10_storms_2 17 rfl rfl)
theorem dX10_storms_65 : decode cX10_storms 65 = .ok (.iload 4, 2) := dk_21 4 (dk_at dksX10_storms_2 19 rfl rfl)
theorem dX10_storms_67 : decode cX10_storms 67 = .ok (.iload 6, 2) := dk_21 6 (dk_at dksX10_storms_2 21 rfl rfl)
theorem dX10_storms_69 : decode cX10_storms 69 = .ok (.invokestatic 240, 3) := dk_184 0 240 (dk_at dksX10_storms_3 0 rfl rfl)
theorem dX10_storms_72 : decode cX10_storms 72 = .ok (.ifCond .eq 7, 3) := dk_153 0 7 (dk_at dksX10_storms_3 3 rfl rfl)
theorem dX10_storms_75 : decode cX10_storms 75 = .ok (.iload_n 2, 1) := dk_28 (dk_at dksX10_storms_3 6 rfl rfl)
theorem dX10_storms_76 : decode cX10_storms 76 = .ok (.goto 7, 3) := dk_167 0 7 (dk_at dksX10_storms_3 7 rfl rfl)
theorem dX10_storms_79 : decode cX10_storms 79 = .ok (.bipush 10, 2) := dk_16 10 (dk_at dksX10_storms_3 10 rfl rfl)
theorem dX10_storms_81 : decode cX10_storms 81 = .ok (.iload_n 2, 1) := dk_28 (dk_at dksX10_storms_3 12 rfl rfl)
theorem dX10_storms_82 : decode cX10_storms 82 = .ok (.isub, 1) := dk_100 (dk_at dksX10_storms_3 13 rfl rfl)
theorem dX10_storms_83 : decode cX10_storms 83 = .ok (.imul, 1) := dk_104 (dk_at dksX10_storms_3 14 rfl rfl)
theorem dX10_storms_84 : decode cX10_storms 84 = .ok (.istore 5, 2) := dk_54 5 (dk_at dksX10_storms_3 15 rfl rfl)
theorem dX10_storms_86 : decode cX10_storms 86 = .ok (.iinc 6 1, 3) := dk_132 6 1 (dk_at dksX10_storms_3 17 rfl rfl)
theorem dX10_storms_89 : decode cX10_storms 89 = .ok (.goto (-32), 3) := dk_167 255 224 (dk_at dksX10_storms_3 20 rfl rfl)
theorem dX10_storms_92 : decode cX10_storms 92 = .ok (.aload_n 0, 1) := dk_42 (dk_at dksX10_storms_3 23 rfl rfl)
theorem dX10_storms_93 : decode cX10_storms 93 = .ok (.iload_n 1, 1) := dk_27 (dk_at dksX10_storms_4 0 rfl rfl)
theorem dX10_storms_94 : decode cX10_storms 94 = .ok (.putfield 298, 3) := dk_181 1 42 (dk_at dksX10_storms_4 1 rfl rfl)
theorem dX10_storms_97 : decode cX10_storms 97 = .ok (.aload_n 0, 1) := dk_42 (dk_at dksX10_storms_4 4 rfl rfl)
theorem dX10_storms_98 : decode cX10_storms 98 = .ok (.iload 4, 2) := dk_21 4 (dk_at dksX10_storms_4 5 rfl rfl)
theorem dX10_storms_100 : decode cX10_storms 100 = .ok (.putfield 301, 3) := dk_181 1 45 (dk_at dksX10_storms_4 7 rfl rfl)
theorem dX10_storms_103 : decode cX10_storms 103 = .ok (.aload_n 0, 1) := dk_42 (dk_at dksX10_storms_4 10 rfl rfl)
theorem dX10_storms_104 : decode cX10_storms 104 = .ok (.bipush 80, 2) := dk_16 80 (dk_at dksX10_storms_4 11 rfl rfl)
theorem dX10_storms_106 : decode cX10_storms 106 = .ok (.invokevirtual 387, 3) := dk_182 1 131 (dk_at dksX10_storms_4 13 rfl rfl)
theorem dX10_storms_109 : decode cX10_storms 109 = .ok (.iload_n 3, 1) := dk_29 (dk_at dksX10_storms_4 16 rfl rfl)
theorem dX10_storms_110 : decode cX10_storms 110 = .ok (.aload_n 0, 1) := dk_42 (dk_at dksX10_storms_4 17 rfl rfl)
theorem dX10_storms_111 : decode cX10_storms 111 = .ok (.getfield 59, 3) := dk_180 0 59 (dk_at dksX10_storms_4 18 rfl rfl)
theorem dX10_storms_114 : decode cX10_storms 114 = .ok (.bipush 7, 2) := dk_16 7 (dk_at dksX10_storms_4 21 rfl rfl)
theorem dX10_storms_116 : decode cX10_storms 116 = .ok (.iaload, 1) := dk_46 (dk_at dksX10_storms_4 23 rfl rfl)
theorem dX10_storms_117 : decode cX10_storms 117 = .ok (.aload_n 0, 1) := dk_42 (dk_at dksX10_storms_5 0 rfl rfl)
theorem dX10_storms_118 : decode cX10_storms 118 = .ok (.getfield 88, 3) := dk_180 0 88 (dk_at dksX10_storms_5 1 rfl rfl)
theorem dX10_storms_121 : decode cX10_storms 121 = .ok (.bipush 7, 2) := dk_16 7 (dk_at dksX10_storms_5 4 rfl rfl)
theorem dX10_storms_123 : decode cX10_storms 123 = .ok (.iaload, 1) := dk_46 (dk_at dksX10_storms_5 6 rfl rfl)
theorem dX10_storms_124 : decode cX10_storms 124 = .ok (.if_icmp .ne 8, 3) := dk_160 0 8 (dk_at dksX10_storms_5 7 rfl rfl)
theorem dX10_storms_127 : decode cX10_storms 127 = .ok (.iload 5, 2) := dk_21 5 (dk_at dksX10_storms_5 10 rfl rfl)
theorem dX10_storms_129 : decode cX10_storms 129 = .ok (.goto 4, 3) := dk_167 0 4 (dk_at dksX10_storms_5 12 rfl rfl)
theorem dX10_storms_132 : decode cX10_storms 132 = .ok (.iconst 0, 1) := dk_3 (dk_at dksX10_storms_5 15 rfl rfl)
theorem dX10_storms_133 : decode cX10_storms 133 = .ok (.iadd, 1) := dk_96 (dk_at dksX10_storms_5 16 rfl rfl)
theorem dX10_storms_134 : decode cX10_storms 134 = .ok (.istore_n 3, 1) := dk_62 (dk_at dksX10_storms_5 17 rfl rfl)
theorem dX10_storms_135 : decode cX10_storms 135 = .ok (.aload_n 0, 1) := dk_42 (dk_at dksX10_storms_5 18 rfl rfl)
theorem dX10_storms_136 : decode cX10_storms 136 = .ok (.iconst 0, 1) := dk_3 (dk_at dksX10_storms_5 19 rfl rfl)
theorem dX10_storms_137 : decode cX10_storms 137 = .ok (.putfield 298, 3) := dk_181 1 42 (dk_at dksX10_storms_5 20 rfl rfl)
theorem dX10_storms_140 : decode cX10_storms 140 = .ok (.aload_n 0, 1) := dk_42 (dk_at dksX10_storms_5 23 rfl rfl)
theorem dX10_storms_141 : decode cX10_storms 141 = .ok (.iconst 0, 1) := dk_3 (dk_at dksX10_storms_6 0 rfl rfl)
theorem dX10_storms_142 : decode cX10_storms 142 = .ok (.invokevirtual 405, 3) := dk_182 1 149 (dk_at dksX10_storms_6 1 rfl rfl)
theorem dX10_storms_145 : decode cX10_storms 145 = .ok (.pop, 1) := dk_87 (dk_at dksX10_storms_6 4 rfl rfl)
theorem dX10_storms_146 : decode cX10_storms 146 = .ok (.iinc 4 1, 3) := dk_132 4 1 (dk_at dksX10_storms_6 5 rfl rfl)
theorem dX10_storms_149 : decode cX10_storms 149 = .ok (.goto (-106), 3) := dk_167 255 150 (dk_at dksX10_storms_6 8 rfl rfl)
theorem dX10_storms_152 : decode cX10_storms 152 = .ok (.iload_n 3, 1) := dk_29 (dk_at dksX10_storms_6 11 rfl rfl)
theorem dX10_storms_153 : decode cX10_storms 153 = .ok (.ireturn, 1) := dk_172 (dk_at dksX10_storms_6 12 rfl rfl)
abbrev cX10_years : ByteArray := prog_22_method_96_code
def yX10_years : MethodName := ⟨RX10, "years", "(III)I"⟩
def dkwX10_years_8 : List UInt8 := [180, 0, 88, 16, 12, 46, 100, 167, 0, 5, 21, 4, 182, 1, 149, 172]
abbrev dktX10_years_8 : List UInt8 := dkwX10_years_8 ++ []
def dkwX10_years_7 : List UInt8 := [180, 0, 88, 16, 7, 46, 100, 167, 0, 28, 29, 4, 160, 0, 21, 42, 180, 0, 59, 16, 12, 46, 42]
abbrev dktX10_years_7 : List UInt8 := dkwX10_years_7 ++ dktX10_years_8
def dkwX10_years_6 : List UInt8 := [184, 0, 130, 54, 4, 132, 5, 1, 167, 255, 165, 42, 29, 154, 0, 21, 42, 180, 0, 59, 16, 7, 46, 42]
abbrev dktX10_years_6 : List UInt8 := dkwX10_years_6 ++ dktX10_years_7
def dkwX10_years_5 : List UInt8 := [42, 16, 41, 182, 1, 197, 16, 20, 100, 79, 42, 16, 10, 182, 1, 131, 21, 4, 42, 182, 1, 69]
abbrev dktX10_years_5 : List UInt8 := dkwX10_years_5 ++ dktX10_years_6
def dkwX10_years_4 : List UInt8 := [180, 0, 59, 16, 26, 42, 16, 12, 182, 1, 197, 79, 21, 6, 5, 160, 0, 19, 42, 180, 0, 59, 16, 27]
abbrev dktX10_years_4 : List UInt8 := dkwX10_years_4 ++ dktX10_years_5
def dkwX10_years_3 : List UInt8 := [154, 0, 15, 42, 180, 0, 59, 16, 25, 42, 7, 182, 1, 197, 79, 21, 6, 4, 160, 0, 16, 42]
abbrev dktX10_years_3 : List UInt8 := dkwX10_years_3 ++ dktX10_years_4
def dkwX10_years_2 : List UInt8 := [181, 1, 193, 3, 54, 4, 3, 54, 5, 21, 5, 28, 162, 0, 91, 42, 8, 182, 1, 197, 54, 6, 21, 6]
abbrev dktX10_years_2 : List UInt8 := dkwX10_years_2 ++ dktX10_years_3
def dkwX10_years_1 : List UInt8 := [9, 20, 1, 175, 184, 1, 102, 154, 0, 9, 42, 5, 182, 0, 250, 172, 42, 182, 1, 146, 42, 27]
abbrev dktX10_years_1 : List UInt8 := dkwX10_years_1 ++ dktX10_years_2
def dkwX10_years_0 : List UInt8 := [42, 182, 0, 247, 29, 133, 9, 20, 1, 106, 184, 1, 102, 154, 0, 9, 42, 4, 182, 0, 250, 172, 28, 133]
abbrev dktX10_years_0 : List UInt8 := dkwX10_years_0 ++ dktX10_years_1
theorem dksX10_years_0 : cX10_years.data.toList.drop 0 = dktX10_years_0 := by decide +kernel
theorem dksX10_years_1 : cX10_years.data.toList.drop 24 = dktX10_years_1 := dk_seg dksX10_years_0 24 rfl rfl
theorem dksX10_years_2 : cX10_years.data.toList.drop 46 = dktX10_years_2 := dk_seg dksX10_years_1 22 rfl rfl
theorem dksX10_years_3 : cX10_years.data.toList.drop 70 = dktX10_years_3 := dk_seg dksX10_years_2 24 rfl rfl
theorem dksX10_years_4 : cX10_years.data.toList.drop 92 = dktX10_years_4 := dk_seg dksX10_years_3 22 rfl rfl
theorem dksX10_years_5 : cX10_years.data.toList.drop 116 = dktX10_years_5 := dk_seg dksX10_years_4 24 rfl rfl
theorem dksX10_years_6 : cX10_years.data.toList.drop 138 = dktX10_years_6 := dk_seg dksX10_years_5 22 rfl rfl
theorem dksX10_years_7 : cX10_years.data.toList.drop 162 = dktX10_years_7 := dk_seg dksX10_years_6 24 rfl rfl
theorem dksX10_years_8 : cX10_years.data.toList.drop 185 = dktX10_years_8 := dk_seg dksX10_years_7 23 rfl rfl
theorem dX10_years_0 : decode cX10_years 0 = .ok (.aload_n 0, 1) := dk_42 (dk_at dksX10_years_0 0 rfl rfl)
theorem dX10_years_1 : decode cX10_years 1 = .ok (.invokevirtual 247, 3) := dk_182 0 247 (dk_at dksX10_years_0 1 rfl rfl)
theorem dX10_years_4 : decode cX10_years 4 = .ok (.iload_n 3, 1) := dk_29 (dk_at dksX10_years_0 4 rfl rfl)
theorem dX10_years_5 : decode cX10_years 5 = .ok (.i2l, 1) := dk_133 (dk_at dksX10_years_0 5 rfl rfl)
theorem dX10_years_6 : decode cX10_years 6 = .ok (.lconst 0, 1) := dk_9 (dk_at dksX10_years_0 6 rfl rfl)
theorem dX10_years_7 : decode cX10_years 7 = .ok (.ldc2_w 362, 3) := dk_20 1 106 (dk_at dksX10_years_0 7 rfl rfl)
theorem dX10_years_10 : decode cX10_years 10 = .ok (.invokestatic 358, 3) := dk_184 1 102 (dk_at dksX10_years_0 10 rfl rfl)
theorem dX10_years_13 : decode cX10_years 13 = .ok (.ifCond .ne 9, 3) := dk_154 0 9 (dk_at dksX10_years_0 13 rfl rfl)
theorem dX10_years_16 : decode cX10_years 16 = .ok (.aload_n 0, 1) := dk_42 (dk_at dksX10_years_0 16 rfl rfl)
theorem dX10_years_17 : decode cX10_years 17 = .ok (.iconst 1, 1) := dk_4 (dk_at dksX10_years_0 17 rfl rfl)
theorem dX10_years_18 : decode cX10_years 18 = .ok (.invokevirtual 250, 3) := dk_182 0 250 (dk_at dksX10_years_0 18 rfl rfl)
theorem dX10_years_21 : decode cX10_years 21 = .ok (.ireturn, 1) := dk_172 (dk_at dksX10_years_0 21 rfl rfl)
theorem dX10_years_22 : decode cX10_years 22 = .ok (.iload_n 2, 1) := dk_28 (dk_at dksX10_years_0 22 rfl rfl)
theorem dX10_years_23 : decode cX10_years 23 = .ok (.i2l, 1) := dk_133 (dk_at dksX10_years_0 23 rfl rfl)
theorem dX10_years_24 : decode cX10_years 24 = .ok (.lconst 0, 1) := dk_9 (dk_at dksX10_years_1 0 rfl rfl)
theorem dX10_years_25 : decode cX10_years 25 = .ok (.ldc2_w 431, 3) := dk_20 1 175 (dk_at dksX10_years_1 1 rfl rfl)
theorem dX10_years_28 : decode cX10_years 28 = .ok (.invokestatic 358, 3) := dk_184 1 102 (dk_at dksX10_years_1 4 rfl rfl)
theorem dX10_years_31 : decode cX10_years 31 = .ok (.ifCond .ne 9, 3) := dk_154 0 9 (dk_at dksX10_years_1 7 rfl rfl)
theorem dX10_years_34 : decode cX10_years 34 = .ok (.aload_n 0, 1) := dk_42 (dk_at dksX10_years_1 10 rfl rfl)
theorem dX10_years_35 : decode cX10_years 35 = .ok (.iconst 2, 1) := dk_5 (dk_at dksX10_years_1 11 rfl rfl)
theorem dX10_years_36 : decode cX10_years 36 = .ok (.invokevirtual 250, 3) := dk_182 0 250 (dk_at dksX10_years_1 12 rfl rfl)
theorem dX10_years_39 : decode cX10_years 39 = .ok (.ireturn, 1) := dk_172 (dk_at dksX10_years_1 15 rfl rfl)
theorem dX10_years_40 : decode cX10_years 40 = .ok (.aload_n 0, 1) := dk_42 (dk_at dksX10_years_1 16 rfl rfl)
theorem dX10_years_41 : decode cX10_years 41 = .ok (.invokevirtual 402, 3) := dk_182 1 146 (dk_at dksX10_years_1 17 rfl rfl)
theorem dX10_years_44 : decode cX10_years 44 = .ok (.aload_n 0, 1) := dk_42 (dk_at dksX10_years_1 20 rfl rfl)
theorem dX10_years_45 : decode cX10_years 45 = .ok (.iload_n 1, 1) := dk_27 (dk_at dksX10_years_1 21 rfl rfl)
theorem dX10_years_46 : decode cX10_years 46 = .ok (.putfield 449, 3) := dk_181 1 193 (dk_at dksX10_years_2 0 rfl rfl)
theorem dX10_years_49 : decode cX10_years 49 = .ok (.iconst 0, 1) := dk_3 (dk_at dksX10_years_2 3 rfl rfl)
theorem dX10_years_50 : decode cX10_years 50 = .ok (.istore 4, 2) := dk_54 4 (dk_at dksX10_years_2 4 rfl rfl)
theorem dX10_years_52 : decode cX10_years 52 = .ok (.iconst 0, 1) := dk_3 (dk_at dksX10_years_2 6 rfl rfl)
theorem dX10_years_53 : decode cX10_years 53 = .ok (.istore 5, 2) := dk_54 5 (dk_at dksX10_years_2 7 rfl rfl)
theorem dX10_years_55 : decode cX10_years 55 = .ok (.iload 5, 2) := dk_21 5 (dk_at dksX10_years_2 9 rfl rfl)
theorem dX10_years_57 : decode cX10_years 57 = .ok (.iload_n 2, 1) := dk_28 (dk_at dksX10_years_2 11 rfl rfl)
theorem dX10_years_58 : decode cX10_years 58 = .ok (.if_icmp .ge 91, 3) := dk_162 0 91 (dk_at dksX10_years_2 12 rfl rfl)
theorem dX10_years_61 : decode cX10_years 61 = .ok (.aload_n 0, 1) := dk_42 (dk_at dksX10_years_2 15 rfl rfl)
theorem dX10_years_62 : decode cX10_years 62 = .ok (.iconst 5, 1) := dk_8 (dk_at dksX10_years_2 16 rfl rfl)
theorem dX10_years_63 : decode cX10_years 63 = .ok (.invokevirtual 453, 3) := dk_182 1 197 (dk_at dksX10_years_2 17 rfl rfl)
theorem dX10_years_66 : decode cX10_years 66 = .ok (.istore 6, 2) := dk_54 6 (dk_at dksX10_years_2 20 rfl rfl)
theorem dX10_years_68 : decode cX10_years 68 = .ok (.iload 6, 2) := dk_21 6 (dk_at dksX10_years_2 22 rfl rfl)
theorem dX10_years_70 : decode cX10_years 70 = .ok (.ifCond .ne 15, 3) := dk_154 0 15 (dk_at dksX10_years_3 0 rfl rfl)
theorem dX10_years_73 : decode cX10_years 73 = .ok (.aload_n 0, 1) := dk_42 (dk_at dksX10_years_3 3 rfl rfl)
theorem dX10_years_74 : decode cX10_years 74 = .ok (.getfield 59, 3) := dk_180 0 59 (dk_at dksX10_years_3 4 rfl rfl)
theorem dX10_years_77 : decode cX10_years 77 = .ok (.bipush 25, 2) := dk_16 25 (dk_at dksX10_years_3 7 rfl rfl)
theorem dX10_years_79 : decode cX10_years 79 = .ok (.aload_n 0, 1) := dk_42 (dk_at dksX10_years_3 9 rfl rfl)
theorem dX10_years_80 : decode cX10_years 80 = .ok (.iconst 4, 1) := dk_7 (dk_at dksX10_years_3 10 rfl rfl)
theorem dX10_years_81 : decode cX10_years 81 = .ok (.invokevirtual 453, 3) := dk_182 1 197 (dk_at dksX10_years_3 11 rfl rfl)
theorem dX10_years_84 : decode cX10_years 84 = .ok (.iastore, 1) := dk_79 (dk_at dksX10_years_3 14 rfl rfl)
theorem dX10_years_85 : decode cX10_years 85 = .ok (.iload 6, 2) := dk_21 6 (dk_at dksX10_years_3 15 rfl rfl)
theorem dX10_years_87 : decode cX10_years 87 = .ok (.iconst 1, 1) := dk_4 (dk_at dksX10_years_3 17 rfl rfl)
theorem dX10_years_88 : decode cX10_years 88 = .ok (.if_icmp .ne 16, 3) := dk_160 0 16 (dk_at dksX10_years_3 18 rfl rfl)
theorem dX10_years_91 : decode cX10_years 91 = .ok (.aload_n 0, 1) := dk_42 (dk_at dksX10_years_3 21 rfl rfl)
theorem dX10_years_92 : decode cX10_years 92 = .ok (.getfield 59, 3) := dk_180 0 59 (dk_at dksX10_years_4 0 rfl rfl)
theorem dX10_years_95 : decode cX10_years 95 = .ok (.bipush 26, 2) := dk_16 26 (dk_at dksX10_years_4 3 rfl rfl)
theorem dX10_years_97 : decode cX10_years 97 = .ok (.aload_n 0, 1) := dk_42 (dk_at dksX10_years_4 5 rfl rfl)
theorem dX10_years_98 : decode cX10_years 98 = .ok (.bipush 12, 2) := dk_16 12 (dk_at dksX10_years_4 6 rfl rfl)
theorem dX10_years_100 : decode cX10_years 100 = .ok (.invokevirtual 453, 3) := dk_182 1 197 (dk_at dksX10_years_4 8 rfl rfl)
theorem dX10_years_103 : decode cX10_years 103 = .ok (.iastore, 1) := dk_79 (dk_at dksX10_years_4 11 rfl rfl)
theorem dX10_years_104 : decode cX10_years 104 = .ok (.iload 6, 2) := dk_21 6 (dk_at dksX10_years_4 12 rfl rfl)
theorem dX10_years_106 : decode cX10_years 106 = .ok (.iconst 2, 1) := dk_5 (dk_at dksX10_years_4 14 rfl rfl)
theorem dX10_years_107 : decode cX10_years 107 = .ok (.if_icmp .ne 19, 3) := dk_160 0 19 (dk_at dksX10_years_4 15 rfl rfl)
theorem dX10_years_110 : decode cX10_years 110 = .ok (.aload_n 0, 1) := dk_42 (dk_at dksX10_years_4 18 rfl rfl)
theorem dX10_years_111 : decode cX10_years 111 = .ok (.getfield 59, 3) := dk_180 0 59 (dk_at dksX10_years_4 19 rfl rfl)
theorem dX10_years_114 : decode cX10_years 114 = .ok (.bipush 27, 2) := dk_16 27 (dk_at dksX10_years_4 22 rfl rfl)
theorem dX10_years_116 : decode cX10_years 116 = .ok (.aload_n 0, 1) := dk_42 (dk_at dksX10_years_5 0 rfl rfl)
theorem dX10_years_117 : decode cX10_years 117 = .ok (.bipush 41, 2) := dk_16 41 (dk_at dksX10_years_5 1 rfl rfl)
theorem dX10_years_119 : decode cX10_years 119 = .ok (.invokevirtual 453, 3) := dk_182 1 197 (dk_at dksX10_years_5 3 rfl rfl)
theorem dX10_years_122 : decode cX10_years 122 = .ok (.bipush 20, 2) := dk_16 20 (dk_at dksX10_years_5 6 rfl rfl)
theorem dX10_years_124 : decode cX10_years 124 = .ok (.isub, 1) := dk_100 (dk_at dksX10_years_5 8 rfl rfl)
theorem dX10_years_125 : decode cX10_years 125 = .ok (.iastore, 1) := dk_79 (dk_at dksX10_years_5 9 rfl rfl)
theorem dX10_years_126 : decode cX10_years 126 = .ok (.aload_n 0, 1) := dk_42 (dk_at dksX10_years_5 10 rfl rfl)
theorem dX10_years_127 : decode cX10_years 127 = .ok (.bipush 10, 2) := dk_16 10 (dk_at dksX10_years_5 11 rfl rfl)
theorem dX10_years_129 : decode cX10_years 129 = .ok (.invokevirtual 387, 3) := dk_182 1 131 (dk_at dksX10_years_5 13 rfl rfl)
theorem dX10_years_132 : decode cX10_years 132 = .ok (.iload 4, 2) := dk_21 4 (dk_at dksX10_years_5 16 rfl rfl)
theorem dX10_years_134 : decode cX10_years 134 = .ok (.aload_n 0, 1) := dk_42 (dk_at dksX10_years_5 18 rfl rfl)
theorem dX10_years_135 : decode cX10_years 135 = .ok (.invokevirtual 325, 3) := dk_182 1 69 (dk_at dksX10_years_5 19 rfl rfl)
theorem dX10_years_138 : decode cX10_years 138 = .ok (.invokestatic 130, 3) := dk_184 0 130 (dk_at dksX10_years_6 0 rfl rfl)
theorem dX10_years_141 : decode cX10_years 141 = .ok (.istore 4, 2) := dk_54 4 (dk_at dksX10_years_6 3 rfl rfl)
theorem dX10_years_143 : decode cX10_years 143 = .ok (.iinc 5 1, 3) := dk_132 5 1 (dk_at dksX10_years_6 5 rfl rfl)
theorem dX10_years_146 : decode cX10_years 146 = .ok (.goto (-91), 3) := dk_167 255 165 (dk_at dksX10_years_6 8 rfl rfl)
theorem dX10_years_149 : decode cX10_years 149 = .ok (.aload_n 0, 1) := dk_42 (dk_at dksX10_years_6 11 rfl rfl)
theorem dX10_years_150 : decode cX10_years 150 = .ok (.iload_n 3, 1) := dk_29 (dk_at dksX10_years_6 12 rfl rfl)
theorem dX10_years_151 : decode cX10_years 151 = .ok (.ifCond .ne 21, 3) := dk_154 0 21 (dk_at dksX10_years_6 13 rfl rfl)
theorem dX10_years_154 : decode cX10_years 154 = .ok (.aload_n 0, 1) := dk_42 (dk_at dksX10_years_6 16 rfl rfl)
theorem dX10_years_155 : decode cX10_years 155 = .ok (.getfield 59, 3) := dk_180 0 59 (dk_at dksX10_years_6 17 rfl rfl)
theorem dX10_years_158 : decode cX10_years 158 = .ok (.bipush 7, 2) := dk_16 7 (dk_at dksX10_years_6 20 rfl rfl)
theorem dX10_years_160 : decode cX10_years 160 = .ok (.iaload, 1) := dk_46 (dk_at dksX10_years_6 22 rfl rfl)
theorem dX10_years_161 : decode cX10_years 161 = .ok (.aload_n 0, 1) := dk_42 (dk_at dksX10_years_6 23 rfl rfl)
theorem dX10_years_162 : decode cX10_years 162 = .ok (.getfield 88, 3) := dk_180 0 88 (dk_at dksX10_years_7 0 rfl rfl)
theorem dX10_years_165 : decode cX10_years 165 = .ok (.bipush 7, 2) := dk_16 7 (dk_at dksX10_years_7 3 rfl rfl)
theorem dX10_years_167 : decode cX10_years 167 = .ok (.iaload, 1) := dk_46 (dk_at dksX10_years_7 5 rfl rfl)
theorem dX10_years_168 : decode cX10_years 168 = .ok (.isub, 1) := dk_100 (dk_at dksX10_years_7 6 rfl rfl)
theorem dX10_years_169 : decode cX10_years 169 = .ok (.goto 28, 3) := dk_167 0 28 (dk_at dksX10_years_7 7 rfl rfl)
theorem dX10_years_172 : decode cX10_years 172 = .ok (.iload_n 3, 1) := dk_29 (dk_at dksX10_years_7 10 rfl rfl)
theorem dX10_years_173 : decode cX10_years 173 = .ok (.iconst 1, 1) := dk_4 (dk_at dksX10_years_7 11 rfl rfl)
theorem dX10_years_174 : decode cX10_years 174 = .ok (.if_icmp .ne 21, 3) := dk_160 0 21 (dk_at dksX10_years_7 12 rfl rfl)
theorem dX10_years_177 : decode cX10_years 177 = .ok (.aload_n 0, 1) := dk_42 (dk_at dksX10_years_7 15 rfl rfl)
theorem dX10_years_178 : decode cX10_years 178 = .ok (.getfield 59, 3) := dk_180 0 59 (dk_at dksX10_years_7 16 rfl rfl)
theorem dX10_years_181 : decode cX10_years 181 = .ok (.bipush 12, 2) := dk_16 12 (dk_at dksX10_years_7 19 rfl rfl)
theorem dX10_years_183 : decode cX10_years 183 = .ok (.iaload, 1) := dk_46 (dk_at dksX10_years_7 21 rfl rfl)
theorem dX10_years_184 : decode cX10_years 184 = .ok (.aload_n 0, 1) := dk_42 (dk_at dksX10_years_7 22 rfl rfl)
theorem dX10_years_185 : decode cX10_years 185 = .ok (.getfield 88, 3) := dk_180 0 88 (dk_at dksX10_years_8 0 rfl rfl)
theorem dX10_years_188 : decode cX10_years 188 = .ok (.bipush 12, 2) := dk_16 12 (dk_at dksX10_years_8 3 rfl rfl)
theorem dX10_years_190 : decode cX10_years 190 = .ok (.iaload, 1) := dk_46 (dk_at dksX10_years_8 5 rfl rfl)
theorem dX10_years_191 : decode cX10_years 191 = .ok (.isub, 1) := dk_100 (dk_at dksX10_years_8 6 rfl rfl)
theorem dX10_years_192 : decode cX10_years 192 = .ok (.goto 5, 3) := dk_167 0 5 (dk_at dksX10_years_8 7 rfl rfl)
theorem dX10_years_195 : decode cX10_years 195 = .ok (.iload 4, 2) := dk_21 4 (dk_at dksX10_years_8 10 rfl rfl)
theorem dX10_years_197 : decode cX10_years 197 = .ok (.invokevirtual 405, 3) := dk_182 1 149 (dk_at dksX10_years_8 12 rfl rfl)
theorem dX10_years_200 : decode cX10_years 200 = .ok (.ireturn, 1) := dk_172 (dk_at dksX10_years_8 15 rfl rfl)
abbrev cX10_drawOf : ByteArray := prog_22_method_95_code
def yX10_drawOf : MethodName := ⟨RX10, "drawOf", "(I)I"⟩
def dkwX10_drawOf_1 : List UInt8 := [17, 127, 255, 126, 27, 112, 172]
abbrev dktX10_drawOf_1 : List UInt8 := dkwX10_drawOf_1 ++ []
def dkwX10_drawOf_0 : List UInt8 := [42, 42, 180, 1, 193, 19, 1, 196, 104, 17, 48, 57, 96, 181, 1, 193, 42, 180, 1, 193, 16, 16, 122]
abbrev dktX10_drawOf_0 : List UInt8 := dkwX10_drawOf_0 ++ dktX10_drawOf_1
theorem dksX10_drawOf_0 : cX10_drawOf.data.toList.drop 0 = dktX10_drawOf_0 := by decide +kernel
theorem dksX10_drawOf_1 : cX10_drawOf.data.toList.drop 23 = dktX10_drawOf_1 := dk_seg dksX10_drawOf_0 23 rfl rfl
theorem dX10_drawOf_0 : decode cX10_drawOf 0 = .ok (.aload_n 0, 1) := dk_42 (dk_at dksX10_drawOf_0 0 rfl rfl)
theorem dX10_drawOf_1 : decode cX10_drawOf 1 = .ok (.aload_n 0, 1) := dk_42 (dk_at dksX10_drawOf_0 1 rfl rfl)
theorem dX10_drawOf_2 : decode cX10_drawOf 2 = .ok (.getfield 449, 3) := dk_180 1 193 (dk_at dksX10_drawOf_0 2 rfl rfl)
theorem dX10_drawOf_5 : decode cX10_drawOf 5 = .ok (.ldc_w 452, 3) := dk_19 1 196 (dk_at dksX10_drawOf_0 5 rfl rfl)
theorem dX10_drawOf_8 : decode cX10_drawOf 8 = .ok (.imul, 1) := dk_104 (dk_at dksX10_drawOf_0 8 rfl rfl)
theorem dX10_drawOf_9 : decode cX10_drawOf 9 = .ok (.sipush 12345, 3) := dk_17 48 57 (dk_at dksX10_drawOf_0 9 rfl rfl)
theorem dX10_drawOf_12 : decode cX10_drawOf 12 = .ok (.iadd, 1) := dk_96 (dk_at dksX10_drawOf_0 12 rfl rfl)
theorem dX10_drawOf_13 : decode cX10_drawOf 13 = .ok (.putfield 449, 3) := dk_181 1 193 (dk_at dksX10_drawOf_0 13 rfl rfl)
theorem dX10_drawOf_16 : decode cX10_drawOf 16 = .ok (.aload_n 0, 1) := dk_42 (dk_at dksX10_drawOf_0 16 rfl rfl)
theorem dX10_drawOf_17 : decode cX10_drawOf 17 = .ok (.getfield 449, 3) := dk_180 1 193 (dk_at dksX10_drawOf_0 17 rfl rfl)
theorem dX10_drawOf_20 : decode cX10_drawOf 20 = .ok (.bipush 16, 2) := dk_16 16 (dk_at dksX10_drawOf_0 20 rfl rfl)
theorem dX10_drawOf_22 : decode cX10_drawOf 22 = .ok (.ishr, 1) := dk_122 (dk_at dksX10_drawOf_0 22 rfl rfl)
theorem dX10_drawOf_23 : decode cX10_drawOf 23 = .ok (.sipush 32767, 3) := dk_17 127 255 (dk_at dksX10_drawOf_1 0 rfl rfl)
theorem dX10_drawOf_26 : decode cX10_drawOf 26 = .ok (.iand, 1) := dk_126 (dk_at dksX10_drawOf_1 3 rfl rfl)
theorem dX10_drawOf_27 : decode cX10_drawOf 27 = .ok (.iload_n 1, 1) := dk_27 (dk_at dksX10_drawOf_1 4 rfl rfl)
theorem dX10_drawOf_28 : decode cX10_drawOf 28 = .ok (.irem, 1) := dk_112 (dk_at dksX10_drawOf_1 5 rfl rfl)
theorem dX10_drawOf_29 : decode cX10_drawOf 29 = .ok (.ireturn, 1) := dk_172 (dk_at dksX10_drawOf_1 6 rfl rfl)
abbrev cX10_image : ByteArray := prog_22_method_97_code
def yX10_image : MethodName := ⟨RX10, "image", "()V"⟩
def dkwX10_image_3 : List UInt8 := [184, 1, 138, 42, 180, 0, 118, 42, 180, 0, 56, 184, 1, 138, 177]
abbrev dktX10_image_3 : List UInt8 := dkwX10_image_3 ++ []
def dkwX10_image_2 : List UInt8 := [184, 1, 138, 42, 180, 0, 112, 42, 180, 0, 94, 184, 1, 138, 42, 180, 0, 115, 42, 180, 0, 97]
abbrev dktX10_image_2 : List UInt8 := dkwX10_image_2 ++ dktX10_image_3
def dkwX10_image_1 : List UInt8 := [181, 1, 203, 42, 180, 0, 106, 42, 180, 0, 59, 184, 1, 138, 42, 180, 0, 109, 42, 180, 0, 85]
abbrev dktX10_image_1 : List UInt8 := dkwX10_image_1 ++ dktX10_image_2
def dkwX10_image_0 : List UInt8 := [42, 182, 0, 247, 42, 4, 181, 1, 28, 42, 42, 180, 1, 22, 181, 1, 200, 42, 42, 180, 1, 25]
abbrev dktX10_image_0 : List UInt8 := dkwX10_image_0 ++ dktX10_image_1
theorem dksX10_image_0 : cX10_image.data.toList.drop 0 = dktX10_image_0 := by decide +kernel
theorem dksX10_image_1 : cX10_image.data.toList.drop 22 = dktX10_image_1 := dk_seg dksX10_image_0 22 rfl rfl
theorem dksX10_image_2 : cX10_image.data.toList.drop 44 = dktX10_image_2 := dk_seg dksX10_image_1 22 rfl rfl
theorem dksX10_image_3 : cX10_image.data.toList.drop 66 = dktX10_image_3 := dk_seg dksX10_image_2 22 rfl rfl
theorem dX10_image_0 : decode cX10_image 0 = .ok (.aload_n 0, 1) := dk_42 (dk_at dksX10_image_0 0 rfl rfl)
theorem dX10_image_1 : decode cX10_image 1 = .ok (.invokevirtual 247, 3) := dk_182 0 247 (dk_at dksX10_image_0 1 rfl rfl)
theorem dX10_image_4 : decode cX10_image 4 = .ok (.aload_n 0, 1) := dk_42 (dk_at dksX10_image_0 4 rfl rfl)
theorem dX10_image_5 : decode cX10_image 5 = .ok (.iconst 1, 1) := dk_4 (dk_at dksX10_image_0 5 rfl rfl)
theorem dX10_image_6 : decode cX10_image 6 = .ok (.putfield 284, 3) := dk_181 1 28 (dk_at dksX10_image_0 6 rfl rfl)
theorem dX10_image_9 : decode cX10_image 9 = .ok (.aload_n 0, 1) := dk_42 (dk_at dksX10_image_0 9 rfl rfl)
theorem dX10_image_10 : decode cX10_image 10 = .ok (.aload_n 0, 1) := dk_42 (dk_at dksX10_image_0 10 rfl rfl)
theorem dX10_image_11 : decode cX10_image 11 = .ok (.getfield 278, 3) := dk_180 1 22 (dk_at dksX10_image_0 11 rfl rfl)
theorem dX10_image_14 : decode cX10_image 14 = .ok (.putfield 456, 3) := dk_181 1 200 (dk_at dksX10_image_0 14 rfl rfl)
theorem dX10_image_17 : decode cX10_image 17 = .ok (.aload_n 0, 1) := dk_42 (dk_at dksX10_image_0 17 rfl rfl)
theorem dX10_image_18 : decode cX10_image 18 = .ok (.aload_n 0, 1) := dk_42 (dk_at dksX10_image_0 18 rfl rfl)
theorem dX10_image_19 : decode cX10_image 19 = .ok (.getfield 281, 3) := dk_180 1 25 (dk_at dksX10_image_0 19 rfl rfl)
theorem dX10_image_22 : decode cX10_image 22 = .ok (.putfield 459, 3) := dk_181 1 203 (dk_at dksX10_image_1 0 rfl rfl)
theorem dX10_image_25 : decode cX10_image 25 = .ok (.aload_n 0, 1) := dk_42 (dk_at dksX10_image_1 3 rfl rfl)
theorem dX10_image_26 : decode cX10_image 26 = .ok (.getfield 106, 3) := dk_180 0 106 (dk_at dksX10_image_1 4 rfl rfl)
theorem dX10_image_29 : decode cX10_image 29 = .ok (.aload_n 0, 1) := dk_42 (dk_at dksX10_image_1 7 rfl rfl)
theorem dX10_image_30 : decode cX10_image 30 = .ok (.getfield 59, 3) := dk_180 0 59 (dk_at dksX10_image_1 8 rfl rfl)
theorem dX10_image_33 : decode cX10_image 33 = .ok (.invokestatic 394, 3) := dk_184 1 138 (dk_at dksX10_image_1 11 rfl rfl)
theorem dX10_image_36 : decode cX10_image 36 = .ok (.aload_n 0, 1) := dk_42 (dk_at dksX10_image_1 14 rfl rfl)
theorem dX10_image_37 : decode cX10_image 37 = .ok (.getfield 109, 3) := dk_180 0 109 (dk_at dksX10_image_1 15 rfl rfl)
theorem dX10_image_40 : decode cX10_image 40 = .ok (.aload_n 0, 1) := dk_42 (dk_at dksX10_image_1 18 rfl rfl)
theorem dX10_image_41 : decode cX10_image 41 = .ok (.getfield 85, 3) := dk_180 0 85 (dk_at dksX10_image_1 19 rfl rfl)
theorem dX10_image_44 : decode cX10_image 44 = .ok (.invokestatic 394, 3) := dk_184 1 138 (dk_at dksX10_image_2 0 rfl rfl)
theorem dX10_image_47 : decode cX10_image 47 = .ok (.aload_n 0, 1) := dk_42 (dk_at dksX10_image_2 3 rfl rfl)
theorem dX10_image_48 : decode cX10_image 48 = .ok (.getfield 112, 3) := dk_180 0 112 (dk_at dksX10_image_2 4 rfl rfl)
theorem dX10_image_51 : decode cX10_image 51 = .ok (.aload_n 0, 1) := dk_42 (dk_at dksX10_image_2 7 rfl rfl)
theorem dX10_image_52 : decode cX10_image 52 = .ok (.getfield 94, 3) := dk_180 0 94 (dk_at dksX10_image_2 8 rfl rfl)
theorem dX10_image_55 : decode cX10_image 55 = .ok (.invokestatic 394, 3) := dk_184 1 138 (dk_at dksX10_image_2 11 rfl rfl)
theorem dX10_image_58 : decode cX10_image 58 = .ok (.aload_n 0, 1) := dk_42 (dk_at dksX10_image_2 14 rfl rfl)
theorem dX10_image_59 : decode cX10_image 59 = .ok (.getfield 115, 3) := dk_180 0 115 (dk_at dksX10_image_2 15 rfl rfl)
theorem dX10_image_62 : decode cX10_image 62 = .ok (.aload_n 0, 1) := dk_42 (dk_at dksX10_image_2 18 rfl rfl)
theorem dX10_image_63 : decode cX10_image 63 = .ok (.getfield 97, 3) := dk_180 0 97 (dk_at dksX10_image_2 19 rfl rfl)
theorem dX10_image_66 : decode cX10_image 66 = .ok (.invokestatic 394, 3) := dk_184 1 138 (dk_at dksX10_image_3 0 rfl rfl)
theorem dX10_image_69 : decode cX10_image 69 = .ok (.aload_n 0, 1) := dk_42 (dk_at dksX10_image_3 3 rfl rfl)
theorem dX10_image_70 : decode cX10_image 70 = .ok (.getfield 118, 3) := dk_180 0 118 (dk_at dksX10_image_3 4 rfl rfl)
theorem dX10_image_73 : decode cX10_image 73 = .ok (.aload_n 0, 1) := dk_42 (dk_at dksX10_image_3 7 rfl rfl)
theorem dX10_image_74 : decode cX10_image 74 = .ok (.getfield 56, 3) := dk_180 0 56 (dk_at dksX10_image_3 8 rfl rfl)
theorem dX10_image_77 : decode cX10_image 77 = .ok (.invokestatic 394, 3) := dk_184 1 138 (dk_at dksX10_image_3 11 rfl rfl)
theorem dX10_image_80 : decode cX10_image 80 = .ok (.return_, 1) := dk_177 (dk_at dksX10_image_3 14 rfl rfl)
abbrev cX10_restore : ByteArray := prog_22_method_98_code
def yX10_restore : MethodName := ⟨RX10, "restore", "()Z"⟩
def dkwX10_restore_3 : List UInt8 := [180, 0, 115, 184, 1, 138, 42, 180, 0, 56, 42, 180, 0, 118, 184, 1, 138, 4, 172]
abbrev dktX10_restore_3 : List UInt8 := dkwX10_restore_3 ++ []
def dkwX10_restore_2 : List UInt8 := [180, 0, 109, 184, 1, 138, 42, 180, 0, 94, 42, 180, 0, 112, 184, 1, 138, 42, 180, 0, 97, 42]
abbrev dktX10_restore_2 : List UInt8 := dkwX10_restore_2 ++ dktX10_restore_3
def dkwX10_restore_1 : List UInt8 := [180, 1, 203, 181, 1, 25, 42, 180, 0, 59, 42, 180, 0, 106, 184, 1, 138, 42, 180, 0, 85, 42]
abbrev dktX10_restore_1 : List UInt8 := dkwX10_restore_1 ++ dktX10_restore_2
def dkwX10_restore_0 : List UInt8 := [42, 182, 0, 247, 42, 180, 1, 28, 154, 0, 5, 3, 172, 42, 42, 180, 1, 200, 181, 1, 22, 42, 42]
abbrev dktX10_restore_0 : List UInt8 := dkwX10_restore_0 ++ dktX10_restore_1
theorem dksX10_restore_0 : cX10_restore.data.toList.drop 0 = dktX10_restore_0 := by decide +kernel
theorem dksX10_restore_1 : cX10_restore.data.toList.drop 23 = dktX10_restore_1 := dk_seg dksX10_restore_0 23 rfl rfl
theorem dksX10_restore_2 : cX10_restore.data.toList.drop 45 = dktX10_restore_2 := dk_seg dksX10_restore_1 22 rfl rfl
theorem dksX10_restore_3 : cX10_restore.data.toList.drop 67 = dktX10_restore_3 := dk_seg dksX10_restore_2 22 rfl rfl
theorem dX10_restore_0 : decode cX10_restore 0 = .ok (.aload_n 0, 1) := dk_42 (dk_at dksX10_restore_0 0 rfl rfl)
theorem dX10_restore_1 : decode cX10_restore 1 = .ok (.invokevirtual 247, 3) := dk_182 0 247 (dk_at dksX10_restore_0 1 rfl rfl)
theorem dX10_restore_4 : decode cX10_restore 4 = .ok (.aload_n 0, 1) := dk_42 (dk_at dksX10_restore_0 4 rfl rfl)
theorem dX10_restore_5 : decode cX10_restore 5 = .ok (.getfield 284, 3) := dk_180 1 28 (dk_at dksX10_restore_0 5 rfl rfl)
theorem dX10_restore_8 : decode cX10_restore 8 = .ok (.ifCond .ne 5, 3) := dk_154 0 5 (dk_at dksX10_restore_0 8 rfl rfl)
theorem dX10_restore_11 : decode cX10_restore 11 = .ok (.iconst 0, 1) := dk_3 (dk_at dksX10_restore_0 11 rfl rfl)
theorem dX10_restore_12 : decode cX10_restore 12 = .ok (.ireturn, 1) := dk_172 (dk_at dksX10_restore_0 12 rfl rfl)
theorem dX10_restore_13 : decode cX10_restore 13 = .ok (.aload_n 0, 1) := dk_42 (dk_at dksX10_restore_0 13 rfl rfl)
theorem dX10_restore_14 : decode cX10_restore 14 = .ok (.aload_n 0, 1) := dk_42 (dk_at dksX10_restore_0 14 rfl rfl)
theorem dX10_restore_15 : decode cX10_restore 15 = .ok (.getfield 456, 3) := dk_180 1 200 (dk_at dksX10_restore_0 15 rfl rfl)
theorem dX10_restore_18 : decode cX10_restore 18 = .ok (.putfield 278, 3) := dk_181 1 22 (dk_at dksX10_restore_0 18 rfl rfl)
theorem dX10_restore_21 : decode cX10_restore 21 = .ok (.aload_n 0, 1) := dk_42 (dk_at dksX10_restore_0 21 rfl rfl)
theorem dX10_restore_22 : decode cX10_restore 22 = .ok (.aload_n 0, 1) := dk_42 (dk_at dksX10_restore_0 22 rfl rfl)
theorem dX10_restore_23 : decode cX10_restore 23 = .ok (.getfield 459, 3) := dk_180 1 203 (dk_at dksX10_restore_1 0 rfl rfl)
theorem dX10_restore_26 : decode cX10_restore 26 = .ok (.putfield 281, 3) := dk_181 1 25 (dk_at dksX10_restore_1 3 rfl rfl)
theorem dX10_restore_29 : decode cX10_restore 29 = .ok (.aload_n 0, 1) := dk_42 (dk_at dksX10_restore_1 6 rfl rfl)
theorem dX10_restore_30 : decode cX10_restore 30 = .ok (.getfield 59, 3) := dk_180 0 59 (dk_at dksX10_restore_1 7 rfl rfl)
theorem dX10_restore_33 : decode cX10_restore 33 = .ok (.aload_n 0, 1) := dk_42 (dk_at dksX10_restore_1 10 rfl rfl)
theorem dX10_restore_34 : decode cX10_restore 34 = .ok (.getfield 106, 3) := dk_180 0 106 (dk_at dksX10_restore_1 11 rfl rfl)
theorem dX10_restore_37 : decode cX10_restore 37 = .ok (.invokestatic 394, 3) := dk_184 1 138 (dk_at dksX10_restore_1 14 rfl rfl)
theorem dX10_restore_40 : decode cX10_restore 40 = .ok (.aload_n 0, 1) := dk_42 (dk_at dksX10_restore_1 17 rfl rfl)
theorem dX10_restore_41 : decode cX10_restore 41 = .ok (.getfield 85, 3) := dk_180 0 85 (dk_at dksX10_restore_1 18 rfl rfl)
theorem dX10_restore_44 : decode cX10_restore 44 = .ok (.aload_n 0, 1) := dk_42 (dk_at dksX10_restore_1 21 rfl rfl)
theorem dX10_restore_45 : decode cX10_restore 45 = .ok (.getfield 109, 3) := dk_180 0 109 (dk_at dksX10_restore_2 0 rfl rfl)
theorem dX10_restore_48 : decode cX10_restore 48 = .ok (.invokestatic 394, 3) := dk_184 1 138 (dk_at dksX10_restore_2 3 rfl rfl)
theorem dX10_restore_51 : decode cX10_restore 51 = .ok (.aload_n 0, 1) := dk_42 (dk_at dksX10_restore_2 6 rfl rfl)
theorem dX10_restore_52 : decode cX10_restore 52 = .ok (.getfield 94, 3) := dk_180 0 94 (dk_at dksX10_restore_2 7 rfl rfl)
theorem dX10_restore_55 : decode cX10_restore 55 = .ok (.aload_n 0, 1) := dk_42 (dk_at dksX10_restore_2 10 rfl rfl)
theorem dX10_restore_56 : decode cX10_restore 56 = .ok (.getfield 112, 3) := dk_180 0 112 (dk_at dksX10_restore_2 11 rfl rfl)
theorem dX10_restore_59 : decode cX10_restore 59 = .ok (.invokestatic 394, 3) := dk_184 1 138 (dk_at dksX10_restore_2 14 rfl rfl)
theorem dX10_restore_62 : decode cX10_restore 62 = .ok (.aload_n 0, 1) := dk_42 (dk_at dksX10_restore_2 17 rfl rfl)
theorem dX10_restore_63 : decode cX10_restore 63 = .ok (.getfield 97, 3) := dk_180 0 97 (dk_at dksX10_restore_2 18 rfl rfl)
theorem dX10_restore_66 : decode cX10_restore 66 = .ok (.aload_n 0, 1) := dk_42 (dk_at dksX10_restore_2 21 rfl rfl)
theorem dX10_restore_67 : decode cX10_restore 67 = .ok (.getfield 115, 3) := dk_180 0 115 (dk_at dksX10_restore_3 0 rfl rfl)
theorem dX10_restore_70 : decode cX10_restore 70 = .ok (.invokestatic 394, 3) := dk_184 1 138 (dk_at dksX10_restore_3 3 rfl rfl)
theorem dX10_restore_73 : decode cX10_restore 73 = .ok (.aload_n 0, 1) := dk_42 (dk_at dksX10_restore_3 6 rfl rfl)
theorem dX10_restore_74 : decode cX10_restore 74 = .ok (.getfield 56, 3) := dk_180 0 56 (dk_at dksX10_restore_3 7 rfl rfl)
theorem dX10_restore_77 : decode cX10_restore 77 = .ok (.aload_n 0, 1) := dk_42 (dk_at dksX10_restore_3 10 rfl rfl)
theorem dX10_restore_78 : decode cX10_restore 78 = .ok (.getfield 118, 3) := dk_180 0 118 (dk_at dksX10_restore_3 11 rfl rfl)
theorem dX10_restore_81 : decode cX10_restore 81 = .ok (.invokestatic 394, 3) := dk_184 1 138 (dk_at dksX10_restore_3 14 rfl rfl)
theorem dX10_restore_84 : decode cX10_restore 84 = .ok (.iconst 1, 1) := dk_4 (dk_at dksX10_restore_3 17 rfl rfl)
theorem dX10_restore_85 : decode cX10_restore 85 = .ok (.ireturn, 1) := dk_172 (dk_at dksX10_restore_3 18 rfl rfl)
theorem q147 : (Jvm.Cond.initialized "CircuitCellsModel") ∈ lw_all := lw_g (lw_at lw_m1 32 rfl) rfl
theorem q867 : (Jvm.Cond.selects "CircuitCellsModel" ({ cls := "java/lang/Object", name := "getClass", desc := "()Ljava/lang/Class;" } : Jvm.MethodName) ({ cls := "java/lang/Object", name := "getClass", desc := "()Ljava/lang/Class;" } : Jvm.MethodName)) ∈ lw_all := lw_g (lw_at lw_m4 32 rfl) rfl
theorem q2370 : (Jvm.Cond.instantiable "CircuitCellsModel" (52 : Nat)) ∈ lw_all := lw_g (lw_at lw_m10 95 rfl) rfl
theorem q2372 : (Jvm.Cond.instanceMethod ({ cls := "CircuitCellsModel", name := "<init>", desc := "()V" } : Jvm.MethodName)) ∈ lw_all := lw_g (lw_at lw_m10 97 rfl) rfl
theorem q2373 : (Jvm.Cond.code ({ cls := "CircuitCellsModel", name := "<init>", desc := "()V" } : Jvm.MethodName) prog_22_method_1_code (1 : Nat) (Option.none : Option Jvm.ClassFile.FieldType)) ∈ lw_all := lw_g (lw_at lw_m10 98 rfl) rfl
theorem q2374 : (Jvm.Cond.methodLink "CircuitCellsModel" (3 : Nat) ({ cls := "java/lang/Object", name := "<init>", desc := "()V" } : Jvm.MethodName)) ∈ lw_all := lw_g (lw_at lw_m10 99 rfl) rfl
theorem q2375 : (Jvm.Cond.classLink "CircuitCellsModel" (9 : Nat) "java/lang/String") ∈ lw_all := lw_g (lw_at lw_m10 100 rfl) rfl
theorem q2377 : (Jvm.Cond.stringRef "CircuitCellsModel" (11 : Nat) "packet") ∈ lw_tbl := lw_at lw_m10 102 rfl
theorem q2378 : (Jvm.Cond.stringRef "CircuitCellsModel" (13 : Nat) "time") ∈ lw_tbl := lw_at lw_m10 103 rfl
theorem q2379 : (Jvm.Cond.stringRef "CircuitCellsModel" (15 : Nat) "last") ∈ lw_tbl := lw_at lw_m10 104 rfl
theorem q2380 : (Jvm.Cond.stringRef "CircuitCellsModel" (17 : Nat) "flying") ∈ lw_tbl := lw_at lw_m10 105 rfl
theorem q2381 : (Jvm.Cond.stringRef "CircuitCellsModel" (23 : Nat) "size") ∈ lw_tbl := lw_at lw_m10 106 rfl
theorem q2382 : (Jvm.Cond.stringRef "CircuitCellsModel" (25 : Nat) "target") ∈ lw_tbl := lw_at lw_m10 107 rfl
theorem q2383 : (Jvm.Cond.stringRef "CircuitCellsModel" (27 : Nat) "gain") ∈ lw_tbl := lw_at lw_m10 108 rfl
theorem q2384 : (Jvm.Cond.stringRef "CircuitCellsModel" (29 : Nat) "every") ∈ lw_tbl := lw_at lw_m10 109 rfl
theorem q2385 : (Jvm.Cond.stringRef "CircuitCellsModel" (31 : Nat) "offset") ∈ lw_tbl := lw_at lw_m10 110 rfl
theorem q2386 : (Jvm.Cond.stringRef "CircuitCellsModel" (33 : Nat) "frame") ∈ lw_tbl := lw_at lw_m10 111 rfl
theorem q2387 : (Jvm.Cond.stringRef "CircuitCellsModel" (35 : Nat) "word") ∈ lw_tbl := lw_at lw_m10 112 rfl
theorem q2388 : (Jvm.Cond.stringRef "CircuitCellsModel" (37 : Nat) "delay") ∈ lw_tbl := lw_at lw_m10 113 rfl
theorem q2389 : (Jvm.Cond.stringRef "CircuitCellsModel" (39 : Nat) "lost") ∈ lw_tbl := lw_at lw_m10 114 rfl
theorem q2390 : (Jvm.Cond.fieldLink "CircuitCellsModel" (19 : Nat) "CircuitCellsModel" "values" "[Ljava/lang/String;") ∈ lw_all := lw_g (lw_at lw_m10 115 rfl) rfl
theorem q2391 : (Jvm.Cond.fieldLink "CircuitCellsModel" (41 : Nat) "CircuitCellsModel" "clauses" "[Ljava/lang/String;") ∈ lw_all := lw_g (lw_at lw_m10 116 rfl) rfl
theorem q2392 : (Jvm.Cond.fieldLink "CircuitCellsModel" (121 : Nat) "CircuitCellsModel" "code" "I") ∈ lw_all := lw_g (lw_at lw_m10 117 rfl) rfl
theorem q2393 : (Jvm.Cond.fieldLink "CircuitCellsModel" (44 : Nat) "CircuitCellsModel" "told" "[I") ∈ lw_all := lw_g (lw_at lw_m10 118 rfl) rfl
theorem q2394 : (Jvm.Cond.fieldLink "CircuitCellsModel" (48 : Nat) "CircuitCellsModel" "word" "[I") ∈ lw_all := lw_g (lw_at lw_m10 119 rfl) rfl
theorem q2395 : (Jvm.Cond.fieldLink "CircuitCellsModel" (50 : Nat) "CircuitCellsModel" "signsDelay" "[I") ∈ lw_all := lw_g (lw_at lw_m10 120 rfl) rfl
theorem q2396 : (Jvm.Cond.fieldLink "CircuitCellsModel" (53 : Nat) "CircuitCellsModel" "signsLost" "[I") ∈ lw_all := lw_g (lw_at lw_m10 121 rfl) rfl
theorem q2397 : (Jvm.Cond.fieldLink "CircuitCellsModel" (56 : Nat) "CircuitCellsModel" "status" "[I") ∈ lw_all := lw_g (lw_at lw_m10 122 rfl) rfl
theorem q2398 : (Jvm.Cond.fieldLink "CircuitCellsModel" (59 : Nat) "CircuitCellsModel" "now" "[I") ∈ lw_all := lw_g (lw_at lw_m10 123 rfl) rfl
theorem q2399 : (Jvm.Cond.fieldLink "CircuitCellsModel" (287 : Nat) "CircuitCellsModel" "begun" "Z") ∈ lw_all := lw_g (lw_at lw_m10 124 rfl) rfl
theorem q2400 : (Jvm.Cond.fieldLink "CircuitCellsModel" (196 : Nat) "CircuitCellsModel" "ofLost" "Z") ∈ lw_all := lw_g (lw_at lw_m10 125 rfl) rfl
theorem q2401 : (Jvm.Cond.fieldLink "CircuitCellsModel" (62 : Nat) "CircuitCellsModel" "tape" "[I") ∈ lw_all := lw_g (lw_at lw_m10 126 rfl) rfl
theorem q2402 : (Jvm.Cond.fieldLink "CircuitCellsModel" (133 : Nat) "CircuitCellsModel" "taped" "I") ∈ lw_all := lw_g (lw_at lw_m10 127 rfl) rfl
theorem q2403 : (Jvm.Cond.fieldLink "CircuitCellsModel" (138 : Nat) "CircuitCellsModel" "at" "I") ∈ lw_all := lw_g (lw_at lw_m10 128 rfl) rfl
theorem q2404 : (Jvm.Cond.fieldLink "CircuitCellsModel" (136 : Nat) "CircuitCellsModel" "size" "I") ∈ lw_all := lw_g (lw_at lw_m10 129 rfl) rfl
theorem q2405 : (Jvm.Cond.fieldLink "CircuitCellsModel" (148 : Nat) "CircuitCellsModel" "token" "I") ∈ lw_all := lw_g (lw_at lw_m10 130 rfl) rfl
theorem q2406 : (Jvm.Cond.fieldLink "CircuitCellsModel" (158 : Nat) "CircuitCellsModel" "number" "I") ∈ lw_all := lw_g (lw_at lw_m10 131 rfl) rfl
theorem q2407 : (Jvm.Cond.fieldLink "CircuitCellsModel" (145 : Nat) "CircuitCellsModel" "begins" "I") ∈ lw_all := lw_g (lw_at lw_m10 132 rfl) rfl
theorem q2408 : (Jvm.Cond.fieldLink "CircuitCellsModel" (165 : Nat) "CircuitCellsModel" "stops" "I") ∈ lw_all := lw_g (lw_at lw_m10 133 rfl) rfl
theorem q2409 : (Jvm.Cond.fieldLink "CircuitCellsModel" (168 : Nat) "CircuitCellsModel" "bad" "I") ∈ lw_all := lw_g (lw_at lw_m10 134 rfl) rfl
theorem q2410 : (Jvm.Cond.fieldLink "CircuitCellsModel" (171 : Nat) "CircuitCellsModel" "badPlace" "I") ∈ lw_all := lw_g (lw_at lw_m10 135 rfl) rfl
theorem q2411 : (Jvm.Cond.fieldLink "CircuitCellsModel" (65 : Nat) "CircuitCellsModel" "faultPlace" "I") ∈ lw_all := lw_g (lw_at lw_m10 136 rfl) rfl
theorem q2412 : (Jvm.Cond.fieldLink "CircuitCellsModel" (69 : Nat) "CircuitCellsModel" "asked" "[I") ∈ lw_all := lw_g (lw_at lw_m10 137 rfl) rfl
theorem q2413 : (Jvm.Cond.fieldLink "CircuitCellsModel" (72 : Nat) "CircuitCellsModel" "stack" "[I") ∈ lw_all := lw_g (lw_at lw_m10 138 rfl) rfl
theorem q2414 : (Jvm.Cond.fieldLink "CircuitCellsModel" (266 : Nat) "CircuitCellsModel" "p" "I") ∈ lw_all := lw_g (lw_at lw_m10 139 rfl) rfl
theorem q2415 : (Jvm.Cond.fieldLink "CircuitCellsModel" (269 : Nat) "CircuitCellsModel" "i" "I") ∈ lw_all := lw_g (lw_at lw_m10 140 rfl) rfl
theorem q2416 : (Jvm.Cond.fieldLink "CircuitCellsModel" (75 : Nat) "CircuitCellsModel" "givenFor" "[I") ∈ lw_all := lw_g (lw_at lw_m10 141 rfl) rfl
theorem q2417 : (Jvm.Cond.fieldLink "CircuitCellsModel" (78 : Nat) "CircuitCellsModel" "given" "[I") ∈ lw_all := lw_g (lw_at lw_m10 142 rfl) rfl
theorem q2418 : (Jvm.Cond.fieldLink "CircuitCellsModel" (81 : Nat) "CircuitCellsModel" "hasGiven" "[Z") ∈ lw_all := lw_g (lw_at lw_m10 143 rfl) rfl
theorem q2419 : (Jvm.Cond.fieldLink "CircuitCellsModel" (298 : Nat) "CircuitCellsModel" "stormy" "I") ∈ lw_all := lw_g (lw_at lw_m10 144 rfl) rfl
theorem q2420 : (Jvm.Cond.fieldLink "CircuitCellsModel" (301 : Nat) "CircuitCellsModel" "stormLost" "I") ∈ lw_all := lw_g (lw_at lw_m10 145 rfl) rfl
theorem q2421 : (Jvm.Cond.fieldLink "CircuitCellsModel" (278 : Nat) "CircuitCellsModel" "acts" "I") ∈ lw_all := lw_g (lw_at lw_m10 146 rfl) rfl
theorem q2422 : (Jvm.Cond.fieldLink "CircuitCellsModel" (281 : Nat) "CircuitCellsModel" "noted" "I") ∈ lw_all := lw_g (lw_at lw_m10 147 rfl) rfl
theorem q2423 : (Jvm.Cond.fieldLink "CircuitCellsModel" (85 : Nat) "CircuitCellsModel" "past" "[I") ∈ lw_all := lw_g (lw_at lw_m10 148 rfl) rfl
theorem q2424 : (Jvm.Cond.fieldLink "CircuitCellsModel" (88 : Nat) "CircuitCellsModel" "rowThen" "[I") ∈ lw_all := lw_g (lw_at lw_m10 149 rfl) rfl
theorem q2425 : (Jvm.Cond.fieldLink "CircuitCellsModel" (91 : Nat) "CircuitCellsModel" "playsThen" "[I") ∈ lw_all := lw_g (lw_at lw_m10 150 rfl) rfl
theorem q2426 : (Jvm.Cond.fieldLink "CircuitCellsModel" (419 : Nat) "CircuitCellsModel" "bestOf" "I") ∈ lw_all := lw_g (lw_at lw_m10 151 rfl) rfl
theorem q2427 : (Jvm.Cond.fieldLink "CircuitCellsModel" (422 : Nat) "CircuitCellsModel" "leastOf" "I") ∈ lw_all := lw_g (lw_at lw_m10 152 rfl) rfl
theorem q2428 : (Jvm.Cond.fieldLink "CircuitCellsModel" (94 : Nat) "CircuitCellsModel" "notedIn" "[I") ∈ lw_all := lw_g (lw_at lw_m10 153 rfl) rfl
theorem q2429 : (Jvm.Cond.fieldLink "CircuitCellsModel" (97 : Nat) "CircuitCellsModel" "notedLevel" "[I") ∈ lw_all := lw_g (lw_at lw_m10 154 rfl) rfl
theorem q2430 : (Jvm.Cond.fieldLink "CircuitCellsModel" (100 : Nat) "CircuitCellsModel" "fits" "[I") ∈ lw_all := lw_g (lw_at lw_m10 155 rfl) rfl
theorem q2431 : (Jvm.Cond.fieldLink "CircuitCellsModel" (103 : Nat) "CircuitCellsModel" "levelThen" "[I") ∈ lw_all := lw_g (lw_at lw_m10 156 rfl) rfl
theorem q2432 : (Jvm.Cond.fieldLink "CircuitCellsModel" (435 : Nat) "CircuitCellsModel" "fitMany" "I") ∈ lw_all := lw_g (lw_at lw_m10 157 rfl) rfl
theorem q2433 : (Jvm.Cond.fieldLink "CircuitCellsModel" (449 : Nat) "CircuitCellsModel" "seedNow" "I") ∈ lw_all := lw_g (lw_at lw_m10 158 rfl) rfl
theorem q2434 : (Jvm.Cond.fieldLink "CircuitCellsModel" (284 : Nat) "CircuitCellsModel" "hasImage" "Z") ∈ lw_all := lw_g (lw_at lw_m10 159 rfl) rfl
theorem q2435 : (Jvm.Cond.fieldLink "CircuitCellsModel" (456 : Nat) "CircuitCellsModel" "actsThen" "I") ∈ lw_all := lw_g (lw_at lw_m10 160 rfl) rfl
theorem q2436 : (Jvm.Cond.fieldLink "CircuitCellsModel" (459 : Nat) "CircuitCellsModel" "notedThen" "I") ∈ lw_all := lw_g (lw_at lw_m10 161 rfl) rfl
theorem q2437 : (Jvm.Cond.fieldLink "CircuitCellsModel" (106 : Nat) "CircuitCellsModel" "imageRow" "[I") ∈ lw_all := lw_g (lw_at lw_m10 162 rfl) rfl
theorem q2438 : (Jvm.Cond.fieldLink "CircuitCellsModel" (109 : Nat) "CircuitCellsModel" "pastThen" "[I") ∈ lw_all := lw_g (lw_at lw_m10 163 rfl) rfl
theorem q2439 : (Jvm.Cond.fieldLink "CircuitCellsModel" (112 : Nat) "CircuitCellsModel" "notedInThen" "[I") ∈ lw_all := lw_g (lw_at lw_m10 164 rfl) rfl
theorem q2440 : (Jvm.Cond.fieldLink "CircuitCellsModel" (115 : Nat) "CircuitCellsModel" "notedLevelThen" "[I") ∈ lw_all := lw_g (lw_at lw_m10 165 rfl) rfl
theorem q2441 : (Jvm.Cond.fieldLink "CircuitCellsModel" (118 : Nat) "CircuitCellsModel" "statusThen" "[I") ∈ lw_all := lw_g (lw_at lw_m10 166 rfl) rfl
theorem q2442 : (Jvm.Cond.laysFinal "CircuitCellsModel" "CircuitCellsModel" "values" "[Ljava/lang/String;") ∈ lw_all := lw_g (lw_at lw_m10 167 rfl) rfl
theorem q2443 : (Jvm.Cond.soleField "CircuitCellsModel" "values") ∈ lw_all := lw_g (lw_at lw_m10 168 rfl) rfl
theorem q2444 : (Jvm.Cond.laysFinal "CircuitCellsModel" "CircuitCellsModel" "clauses" "[Ljava/lang/String;") ∈ lw_all := lw_g (lw_at lw_m10 169 rfl) rfl
theorem q2445 : (Jvm.Cond.soleField "CircuitCellsModel" "clauses") ∈ lw_all := lw_g (lw_at lw_m10 170 rfl) rfl
theorem q2446 : (Jvm.Cond.lays "CircuitCellsModel" "CircuitCellsModel" "code" "I") ∈ lw_all := lw_g (lw_at lw_m10 171 rfl) rfl
theorem q2447 : (Jvm.Cond.soleField "CircuitCellsModel" "code") ∈ lw_all := lw_g (lw_at lw_m10 172 rfl) rfl
theorem q2448 : (Jvm.Cond.laysFinal "CircuitCellsModel" "CircuitCellsModel" "told" "[I") ∈ lw_all := lw_g (lw_at lw_m10 173 rfl) rfl
theorem q2449 : (Jvm.Cond.soleField "CircuitCellsModel" "told") ∈ lw_all := lw_g (lw_at lw_m10 174 rfl) rfl
theorem q2450 : (Jvm.Cond.laysFinal "CircuitCellsModel" "CircuitCellsModel" "word" "[I") ∈ lw_all := lw_g (lw_at lw_m10 175 rfl) rfl
theorem q2451 : (Jvm.Cond.soleField "CircuitCellsModel" "word") ∈ lw_all := lw_g (lw_at lw_m10 176 rfl) rfl
theorem q2452 : (Jvm.Cond.laysFinal "CircuitCellsModel" "CircuitCellsModel" "signsDelay" "[I") ∈ lw_all := lw_g (lw_at lw_m10 177 rfl) rfl
theorem q2453 : (Jvm.Cond.soleField "CircuitCellsModel" "signsDelay") ∈ lw_all := lw_g (lw_at lw_m10 178 rfl) rfl
theorem q2454 : (Jvm.Cond.laysFinal "CircuitCellsModel" "CircuitCellsModel" "signsLost" "[I") ∈ lw_all := lw_g (lw_at lw_m10 179 rfl) rfl
theorem q2455 : (Jvm.Cond.soleField "CircuitCellsModel" "signsLost") ∈ lw_all := lw_g (lw_at lw_m10 180 rfl) rfl
theorem q2456 : (Jvm.Cond.laysFinal "CircuitCellsModel" "CircuitCellsModel" "status" "[I") ∈ lw_all := lw_g (lw_at lw_m10 181 rfl) rfl
theorem q2457 : (Jvm.Cond.soleField "CircuitCellsModel" "status") ∈ lw_all := lw_g (lw_at lw_m10 182 rfl) rfl
theorem q2458 : (Jvm.Cond.laysFinal "CircuitCellsModel" "CircuitCellsModel" "now" "[I") ∈ lw_all := lw_g (lw_at lw_m10 183 rfl) rfl
theorem q2459 : (Jvm.Cond.soleField "CircuitCellsModel" "now") ∈ lw_all := lw_g (lw_at lw_m10 184 rfl) rfl
theorem q2460 : (Jvm.Cond.lays "CircuitCellsModel" "CircuitCellsModel" "begun" "Z") ∈ lw_all := lw_g (lw_at lw_m10 185 rfl) rfl
theorem q2461 : (Jvm.Cond.soleField "CircuitCellsModel" "begun") ∈ lw_all := lw_g (lw_at lw_m10 186 rfl) rfl
theorem q2462 : (Jvm.Cond.lays "CircuitCellsModel" "CircuitCellsModel" "ofLost" "Z") ∈ lw_all := lw_g (lw_at lw_m10 187 rfl) rfl
theorem q2463 : (Jvm.Cond.soleField "CircuitCellsModel" "ofLost") ∈ lw_all := lw_g (lw_at lw_m10 188 rfl) rfl
theorem q2464 : (Jvm.Cond.laysFinal "CircuitCellsModel" "CircuitCellsModel" "tape" "[I") ∈ lw_all := lw_g (lw_at lw_m10 189 rfl) rfl
theorem q2465 : (Jvm.Cond.soleField "CircuitCellsModel" "tape") ∈ lw_all := lw_g (lw_at lw_m10 190 rfl) rfl
theorem q2466 : (Jvm.Cond.lays "CircuitCellsModel" "CircuitCellsModel" "taped" "I") ∈ lw_all := lw_g (lw_at lw_m10 191 rfl) rfl
theorem q2467 : (Jvm.Cond.soleField "CircuitCellsModel" "taped") ∈ lw_all := lw_g (lw_at lw_m10 192 rfl) rfl
theorem q2468 : (Jvm.Cond.lays "CircuitCellsModel" "CircuitCellsModel" "at" "I") ∈ lw_all := lw_g (lw_at lw_m10 193 rfl) rfl
theorem q2469 : (Jvm.Cond.soleField "CircuitCellsModel" "at") ∈ lw_all := lw_g (lw_at lw_m10 194 rfl) rfl
theorem q2470 : (Jvm.Cond.lays "CircuitCellsModel" "CircuitCellsModel" "size" "I") ∈ lw_all := lw_g (lw_at lw_m10 195 rfl) rfl
theorem q2471 : (Jvm.Cond.soleField "CircuitCellsModel" "size") ∈ lw_all := lw_g (lw_at lw_m10 196 rfl) rfl
theorem q2472 : (Jvm.Cond.lays "CircuitCellsModel" "CircuitCellsModel" "token" "I") ∈ lw_all := lw_g (lw_at lw_m10 197 rfl) rfl
theorem q2473 : (Jvm.Cond.soleField "CircuitCellsModel" "token") ∈ lw_all := lw_g (lw_at lw_m10 198 rfl) rfl
theorem q2474 : (Jvm.Cond.lays "CircuitCellsModel" "CircuitCellsModel" "number" "I") ∈ lw_all := lw_g (lw_at lw_m10 199 rfl) rfl
theorem q2475 : (Jvm.Cond.soleField "CircuitCellsModel" "number") ∈ lw_all := lw_g (lw_at lw_m10 200 rfl) rfl
theorem q2476 : (Jvm.Cond.lays "CircuitCellsModel" "CircuitCellsModel" "begins" "I") ∈ lw_all := lw_g (lw_at lw_m10 201 rfl) rfl
theorem q2477 : (Jvm.Cond.soleField "CircuitCellsModel" "begins") ∈ lw_all := lw_g (lw_at lw_m10 202 rfl) rfl
theorem q2478 : (Jvm.Cond.lays "CircuitCellsModel" "CircuitCellsModel" "stops" "I") ∈ lw_all := lw_g (lw_at lw_m10 203 rfl) rfl
theorem q2479 : (Jvm.Cond.soleField "CircuitCellsModel" "stops") ∈ lw_all := lw_g (lw_at lw_m10 204 rfl) rfl
theorem q2480 : (Jvm.Cond.lays "CircuitCellsModel" "CircuitCellsModel" "bad" "I") ∈ lw_all := lw_g (lw_at lw_m10 205 rfl) rfl
theorem q2481 : (Jvm.Cond.soleField "CircuitCellsModel" "bad") ∈ lw_all := lw_g (lw_at lw_m10 206 rfl) rfl
theorem q2482 : (Jvm.Cond.lays "CircuitCellsModel" "CircuitCellsModel" "badPlace" "I") ∈ lw_all := lw_g (lw_at lw_m10 207 rfl) rfl
theorem q2483 : (Jvm.Cond.soleField "CircuitCellsModel" "badPlace") ∈ lw_all := lw_g (lw_at lw_m10 208 rfl) rfl
theorem q2484 : (Jvm.Cond.lays "CircuitCellsModel" "CircuitCellsModel" "faultPlace" "I") ∈ lw_all := lw_g (lw_at lw_m10 209 rfl) rfl
theorem q2485 : (Jvm.Cond.soleField "CircuitCellsModel" "faultPlace") ∈ lw_all := lw_g (lw_at lw_m10 210 rfl) rfl
theorem q2486 : (Jvm.Cond.laysFinal "CircuitCellsModel" "CircuitCellsModel" "asked" "[I") ∈ lw_all := lw_g (lw_at lw_m10 211 rfl) rfl
theorem q2487 : (Jvm.Cond.soleField "CircuitCellsModel" "asked") ∈ lw_all := lw_g (lw_at lw_m10 212 rfl) rfl
theorem q2488 : (Jvm.Cond.laysFinal "CircuitCellsModel" "CircuitCellsModel" "stack" "[I") ∈ lw_all := lw_g (lw_at lw_m10 213 rfl) rfl
theorem q2489 : (Jvm.Cond.soleField "CircuitCellsModel" "stack") ∈ lw_all := lw_g (lw_at lw_m10 214 rfl) rfl
theorem q2490 : (Jvm.Cond.lays "CircuitCellsModel" "CircuitCellsModel" "p" "I") ∈ lw_all := lw_g (lw_at lw_m10 215 rfl) rfl
theorem q2491 : (Jvm.Cond.soleField "CircuitCellsModel" "p") ∈ lw_all := lw_g (lw_at lw_m10 216 rfl) rfl
theorem q2492 : (Jvm.Cond.lays "CircuitCellsModel" "CircuitCellsModel" "i" "I") ∈ lw_all := lw_g (lw_at lw_m10 217 rfl) rfl
theorem q2493 : (Jvm.Cond.soleField "CircuitCellsModel" "i") ∈ lw_all := lw_g (lw_at lw_m10 218 rfl) rfl
theorem q2494 : (Jvm.Cond.laysFinal "CircuitCellsModel" "CircuitCellsModel" "givenFor" "[I") ∈ lw_all := lw_g (lw_at lw_m10 219 rfl) rfl
theorem q2495 : (Jvm.Cond.soleField "CircuitCellsModel" "givenFor") ∈ lw_all := lw_g (lw_at lw_m10 220 rfl) rfl
theorem q2496 : (Jvm.Cond.laysFinal "CircuitCellsModel" "CircuitCellsModel" "given" "[I") ∈ lw_all := lw_g (lw_at lw_m10 221 rfl) rfl
theorem q2497 : (Jvm.Cond.soleField "CircuitCellsModel" "given") ∈ lw_all := lw_g (lw_at lw_m10 222 rfl) rfl
theorem q2498 : (Jvm.Cond.laysFinal "CircuitCellsModel" "CircuitCellsModel" "hasGiven" "[Z") ∈ lw_all := lw_g (lw_at lw_m10 223 rfl) rfl
theorem q2499 : (Jvm.Cond.soleField "CircuitCellsModel" "hasGiven") ∈ lw_all := lw_g (lw_at lw_m10 224 rfl) rfl
theorem q2500 : (Jvm.Cond.lays "CircuitCellsModel" "CircuitCellsModel" "stormy" "I") ∈ lw_all := lw_g (lw_at lw_m10 225 rfl) rfl
theorem q2501 : (Jvm.Cond.soleField "CircuitCellsModel" "stormy") ∈ lw_all := lw_g (lw_at lw_m10 226 rfl) rfl
theorem q2502 : (Jvm.Cond.lays "CircuitCellsModel" "CircuitCellsModel" "stormLost" "I") ∈ lw_all := lw_g (lw_at lw_m10 227 rfl) rfl
theorem q2503 : (Jvm.Cond.soleField "CircuitCellsModel" "stormLost") ∈ lw_all := lw_g (lw_at lw_m10 228 rfl) rfl
theorem q2504 : (Jvm.Cond.lays "CircuitCellsModel" "CircuitCellsModel" "acts" "I") ∈ lw_all := lw_g (lw_at lw_m10 229 rfl) rfl
theorem q2505 : (Jvm.Cond.soleField "CircuitCellsModel" "acts") ∈ lw_all := lw_g (lw_at lw_m10 230 rfl) rfl
theorem q2506 : (Jvm.Cond.lays "CircuitCellsModel" "CircuitCellsModel" "noted" "I") ∈ lw_all := lw_g (lw_at lw_m10 231 rfl) rfl
theorem q2507 : (Jvm.Cond.soleField "CircuitCellsModel" "noted") ∈ lw_all := lw_g (lw_at lw_m10 232 rfl) rfl
theorem q2508 : (Jvm.Cond.laysFinal "CircuitCellsModel" "CircuitCellsModel" "past" "[I") ∈ lw_all := lw_g (lw_at lw_m10 233 rfl) rfl
theorem q2509 : (Jvm.Cond.soleField "CircuitCellsModel" "past") ∈ lw_all := lw_g (lw_at lw_m10 234 rfl) rfl
theorem q2510 : (Jvm.Cond.laysFinal "CircuitCellsModel" "CircuitCellsModel" "rowThen" "[I") ∈ lw_all := lw_g (lw_at lw_m10 235 rfl) rfl
theorem q2511 : (Jvm.Cond.soleField "CircuitCellsModel" "rowThen") ∈ lw_all := lw_g (lw_at lw_m10 236 rfl) rfl
theorem q2512 : (Jvm.Cond.laysFinal "CircuitCellsModel" "CircuitCellsModel" "playsThen" "[I") ∈ lw_all := lw_g (lw_at lw_m10 237 rfl) rfl
theorem q2513 : (Jvm.Cond.soleField "CircuitCellsModel" "playsThen") ∈ lw_all := lw_g (lw_at lw_m10 238 rfl) rfl
theorem q2514 : (Jvm.Cond.lays "CircuitCellsModel" "CircuitCellsModel" "bestOf" "I") ∈ lw_all := lw_g (lw_at lw_m10 239 rfl) rfl
theorem q2515 : (Jvm.Cond.soleField "CircuitCellsModel" "bestOf") ∈ lw_all := lw_g (lw_at lw_m11 0 rfl) rfl
theorem q2516 : (Jvm.Cond.lays "CircuitCellsModel" "CircuitCellsModel" "leastOf" "I") ∈ lw_all := lw_g (lw_at lw_m11 1 rfl) rfl
theorem q2517 : (Jvm.Cond.soleField "CircuitCellsModel" "leastOf") ∈ lw_all := lw_g (lw_at lw_m11 2 rfl) rfl
theorem q2518 : (Jvm.Cond.laysFinal "CircuitCellsModel" "CircuitCellsModel" "notedIn" "[I") ∈ lw_all := lw_g (lw_at lw_m11 3 rfl) rfl
theorem q2519 : (Jvm.Cond.soleField "CircuitCellsModel" "notedIn") ∈ lw_all := lw_g (lw_at lw_m11 4 rfl) rfl
theorem q2520 : (Jvm.Cond.laysFinal "CircuitCellsModel" "CircuitCellsModel" "notedLevel" "[I") ∈ lw_all := lw_g (lw_at lw_m11 5 rfl) rfl
theorem q2521 : (Jvm.Cond.soleField "CircuitCellsModel" "notedLevel") ∈ lw_all := lw_g (lw_at lw_m11 6 rfl) rfl
theorem q2522 : (Jvm.Cond.laysFinal "CircuitCellsModel" "CircuitCellsModel" "fits" "[I") ∈ lw_all := lw_g (lw_at lw_m11 7 rfl) rfl
theorem q2523 : (Jvm.Cond.soleField "CircuitCellsModel" "fits") ∈ lw_all := lw_g (lw_at lw_m11 8 rfl) rfl
theorem q2524 : (Jvm.Cond.laysFinal "CircuitCellsModel" "CircuitCellsModel" "levelThen" "[I") ∈ lw_all := lw_g (lw_at lw_m11 9 rfl) rfl
theorem q2525 : (Jvm.Cond.soleField "CircuitCellsModel" "levelThen") ∈ lw_all := lw_g (lw_at lw_m11 10 rfl) rfl
theorem q2526 : (Jvm.Cond.lays "CircuitCellsModel" "CircuitCellsModel" "fitMany" "I") ∈ lw_all := lw_g (lw_at lw_m11 11 rfl) rfl
theorem q2527 : (Jvm.Cond.soleField "CircuitCellsModel" "fitMany") ∈ lw_all := lw_g (lw_at lw_m11 12 rfl) rfl
theorem q2528 : (Jvm.Cond.lays "CircuitCellsModel" "CircuitCellsModel" "seedNow" "I") ∈ lw_all := lw_g (lw_at lw_m11 13 rfl) rfl
theorem q2529 : (Jvm.Cond.soleField "CircuitCellsModel" "seedNow") ∈ lw_all := lw_g (lw_at lw_m11 14 rfl) rfl
theorem q2530 : (Jvm.Cond.lays "CircuitCellsModel" "CircuitCellsModel" "hasImage" "Z") ∈ lw_all := lw_g (lw_at lw_m11 15 rfl) rfl
theorem q2531 : (Jvm.Cond.soleField "CircuitCellsModel" "hasImage") ∈ lw_all := lw_g (lw_at lw_m11 16 rfl) rfl
theorem q2532 : (Jvm.Cond.lays "CircuitCellsModel" "CircuitCellsModel" "actsThen" "I") ∈ lw_all := lw_g (lw_at lw_m11 17 rfl) rfl
theorem q2533 : (Jvm.Cond.soleField "CircuitCellsModel" "actsThen") ∈ lw_all := lw_g (lw_at lw_m11 18 rfl) rfl
theorem q2534 : (Jvm.Cond.lays "CircuitCellsModel" "CircuitCellsModel" "notedThen" "I") ∈ lw_all := lw_g (lw_at lw_m11 19 rfl) rfl
theorem q2535 : (Jvm.Cond.soleField "CircuitCellsModel" "notedThen") ∈ lw_all := lw_g (lw_at lw_m11 20 rfl) rfl
theorem q2536 : (Jvm.Cond.laysFinal "CircuitCellsModel" "CircuitCellsModel" "imageRow" "[I") ∈ lw_all := lw_g (lw_at lw_m11 21 rfl) rfl
theorem q2537 : (Jvm.Cond.soleField "CircuitCellsModel" "imageRow") ∈ lw_all := lw_g (lw_at lw_m11 22 rfl) rfl
theorem q2538 : (Jvm.Cond.laysFinal "CircuitCellsModel" "CircuitCellsModel" "pastThen" "[I") ∈ lw_all := lw_g (lw_at lw_m11 23 rfl) rfl
theorem q2539 : (Jvm.Cond.soleField "CircuitCellsModel" "pastThen") ∈ lw_all := lw_g (lw_at lw_m11 24 rfl) rfl
theorem q2540 : (Jvm.Cond.laysFinal "CircuitCellsModel" "CircuitCellsModel" "notedInThen" "[I") ∈ lw_all := lw_g (lw_at lw_m11 25 rfl) rfl
theorem q2541 : (Jvm.Cond.soleField "CircuitCellsModel" "notedInThen") ∈ lw_all := lw_g (lw_at lw_m11 26 rfl) rfl
theorem q2542 : (Jvm.Cond.laysFinal "CircuitCellsModel" "CircuitCellsModel" "notedLevelThen" "[I") ∈ lw_all := lw_g (lw_at lw_m11 27 rfl) rfl
theorem q2543 : (Jvm.Cond.soleField "CircuitCellsModel" "notedLevelThen") ∈ lw_all := lw_g (lw_at lw_m11 28 rfl) rfl
theorem q2544 : (Jvm.Cond.laysFinal "CircuitCellsModel" "CircuitCellsModel" "statusThen" "[I") ∈ lw_all := lw_g (lw_at lw_m11 29 rfl) rfl
theorem q2545 : (Jvm.Cond.soleField "CircuitCellsModel" "statusThen") ∈ lw_all := lw_g (lw_at lw_m11 30 rfl) rfl
theorem q2546 : (Jvm.Cond.superclass "CircuitCellsModel" "java/lang/Object") ∈ lw_all := lw_g (lw_at lw_m11 31 rfl) rfl
theorem q2549 : (Jvm.Cond.instanceMethod ({ cls := "CircuitCellsModel", name := "thrown", desc := "()I" } : Jvm.MethodName)) ∈ lw_all := lw_g (lw_at lw_m11 34 rfl) rfl
theorem q2550 : (Jvm.Cond.selects "CircuitCellsModel" ({ cls := "CircuitCellsModel", name := "thrown", desc := "()I" } : Jvm.MethodName) ({ cls := "CircuitCellsModel", name := "thrown", desc := "()I" } : Jvm.MethodName)) ∈ lw_all := lw_g (lw_at lw_m11 35 rfl) rfl
theorem q2551 : (Jvm.Cond.code ({ cls := "CircuitCellsModel", name := "thrown", desc := "()I" } : Jvm.MethodName) prog_22_method_2_code (1 : Nat) (Option.some Jvm.ClassFile.FieldType.int)) ∈ lw_all := lw_g (lw_at lw_m11 36 rfl) rfl
theorem q2553 : (Jvm.Cond.instanceMethod ({ cls := "CircuitCellsModel", name := "feed", desc := "(IIIII)I" } : Jvm.MethodName)) ∈ lw_all := lw_g (lw_at lw_m11 38 rfl) rfl
theorem q2554 : (Jvm.Cond.selects "CircuitCellsModel" ({ cls := "CircuitCellsModel", name := "feed", desc := "(IIIII)I" } : Jvm.MethodName) ({ cls := "CircuitCellsModel", name := "feed", desc := "(IIIII)I" } : Jvm.MethodName)) ∈ lw_all := lw_g (lw_at lw_m11 39 rfl) rfl
theorem q2555 : (Jvm.Cond.code ({ cls := "CircuitCellsModel", name := "feed", desc := "(IIIII)I" } : Jvm.MethodName) prog_22_method_7_code (8 : Nat) (Option.some Jvm.ClassFile.FieldType.int)) ∈ lw_all := lw_g (lw_at lw_m11 40 rfl) rfl
theorem q2557 : (Jvm.Cond.instanceMethod ({ cls := "CircuitCellsModel", name := "line", desc := "(I)I" } : Jvm.MethodName)) ∈ lw_all := lw_g (lw_at lw_m11 42 rfl) rfl
theorem q2558 : (Jvm.Cond.selects "CircuitCellsModel" ({ cls := "CircuitCellsModel", name := "line", desc := "(I)I" } : Jvm.MethodName) ({ cls := "CircuitCellsModel", name := "line", desc := "(I)I" } : Jvm.MethodName)) ∈ lw_all := lw_g (lw_at lw_m11 43 rfl) rfl
theorem q2559 : (Jvm.Cond.code ({ cls := "CircuitCellsModel", name := "line", desc := "(I)I" } : Jvm.MethodName) prog_22_method_30_code (3 : Nat) (Option.some Jvm.ClassFile.FieldType.int)) ∈ lw_all := lw_g (lw_at lw_m11 44 rfl) rfl
theorem q2560 : (Jvm.Cond.methodLink "CircuitCellsModel" (247 : Nat) ({ cls := "CircuitCellsModel", name := "ready", desc := "()V" } : Jvm.MethodName)) ∈ lw_all := lw_g (lw_at lw_m11 45 rfl) rfl
theorem q2561 : (Jvm.Cond.privateMethod ({ cls := "CircuitCellsModel", name := "ready", desc := "()V" } : Jvm.MethodName)) ∈ lw_tbl := lw_at lw_m11 46 rfl
theorem q2562 : (Jvm.Cond.instanceMethod ({ cls := "CircuitCellsModel", name := "ready", desc := "()V" } : Jvm.MethodName)) ∈ lw_all := lw_g (lw_at lw_m11 47 rfl) rfl
theorem q2563 : (Jvm.Cond.code ({ cls := "CircuitCellsModel", name := "ready", desc := "()V" } : Jvm.MethodName) prog_22_method_33_code (1 : Nat) (Option.none : Option Jvm.ClassFile.FieldType)) ∈ lw_all := lw_g (lw_at lw_m11 48 rfl) rfl
theorem q2564 : (Jvm.Cond.methodLink "CircuitCellsModel" (253 : Nat) ({ cls := "CircuitCellsModel", name := "beginTold", desc := "()V" } : Jvm.MethodName)) ∈ lw_all := lw_g (lw_at lw_m11 49 rfl) rfl
theorem q2565 : (Jvm.Cond.privateMethod ({ cls := "CircuitCellsModel", name := "beginTold", desc := "()V" } : Jvm.MethodName)) ∈ lw_tbl := lw_at lw_m11 50 rfl
theorem q2566 : (Jvm.Cond.instanceMethod ({ cls := "CircuitCellsModel", name := "beginTold", desc := "()V" } : Jvm.MethodName)) ∈ lw_all := lw_g (lw_at lw_m11 51 rfl) rfl
theorem q2567 : (Jvm.Cond.code ({ cls := "CircuitCellsModel", name := "beginTold", desc := "()V" } : Jvm.MethodName) prog_22_method_29_code (1 : Nat) (Option.none : Option Jvm.ClassFile.FieldType)) ∈ lw_all := lw_g (lw_at lw_m11 52 rfl) rfl
theorem q2568 : (Jvm.Cond.methodLink "CircuitCellsModel" (259 : Nat) ({ cls := "CircuitCellsModel", name := "takeOver", desc := "()V" } : Jvm.MethodName)) ∈ lw_all := lw_g (lw_at lw_m11 53 rfl) rfl
theorem q2569 : (Jvm.Cond.privateMethod ({ cls := "CircuitCellsModel", name := "takeOver", desc := "()V" } : Jvm.MethodName)) ∈ lw_tbl := lw_at lw_m11 54 rfl
theorem q2570 : (Jvm.Cond.instanceMethod ({ cls := "CircuitCellsModel", name := "takeOver", desc := "()V" } : Jvm.MethodName)) ∈ lw_all := lw_g (lw_at lw_m11 55 rfl) rfl
theorem q2571 : (Jvm.Cond.code ({ cls := "CircuitCellsModel", name := "takeOver", desc := "()V" } : Jvm.MethodName) prog_22_method_32_code (2 : Nat) (Option.none : Option Jvm.ClassFile.FieldType)) ∈ lw_all := lw_g (lw_at lw_m11 56 rfl) rfl
theorem q2572 : (Jvm.Cond.methodLink "CircuitCellsModel" (262 : Nat) ({ cls := "CircuitCellsModel", name := "takeHalf", desc := "([I)V" } : Jvm.MethodName)) ∈ lw_all := lw_g (lw_at lw_m11 57 rfl) rfl
theorem q2573 : (Jvm.Cond.static ({ cls := "CircuitCellsModel", name := "takeHalf", desc := "([I)V" } : Jvm.MethodName)) ∈ lw_all := lw_g (lw_at lw_m11 58 rfl) rfl
theorem q2574 : (Jvm.Cond.code ({ cls := "CircuitCellsModel", name := "takeHalf", desc := "([I)V" } : Jvm.MethodName) prog_22_method_31_code (2 : Nat) (Option.none : Option Jvm.ClassFile.FieldType)) ∈ lw_all := lw_g (lw_at lw_m11 59 rfl) rfl
theorem q2575 : (Jvm.Cond.methodLink "CircuitCellsModel" (272 : Nat) ({ cls := "CircuitCellsModel", name := "forgetGiven", desc := "()V" } : Jvm.MethodName)) ∈ lw_all := lw_g (lw_at lw_m11 60 rfl) rfl
theorem q2576 : (Jvm.Cond.privateMethod ({ cls := "CircuitCellsModel", name := "forgetGiven", desc := "()V" } : Jvm.MethodName)) ∈ lw_tbl := lw_at lw_m11 61 rfl
theorem q2577 : (Jvm.Cond.instanceMethod ({ cls := "CircuitCellsModel", name := "forgetGiven", desc := "()V" } : Jvm.MethodName)) ∈ lw_all := lw_g (lw_at lw_m11 62 rfl) rfl
theorem q2578 : (Jvm.Cond.code ({ cls := "CircuitCellsModel", name := "forgetGiven", desc := "()V" } : Jvm.MethodName) prog_22_method_36_code (2 : Nat) (Option.none : Option Jvm.ClassFile.FieldType)) ∈ lw_all := lw_g (lw_at lw_m11 63 rfl) rfl
theorem q2579 : (Jvm.Cond.methodLink "CircuitCellsModel" (275 : Nat) ({ cls := "CircuitCellsModel", name := "emptySlots", desc := "()V" } : Jvm.MethodName)) ∈ lw_all := lw_g (lw_at lw_m11 64 rfl) rfl
theorem q2580 : (Jvm.Cond.privateMethod ({ cls := "CircuitCellsModel", name := "emptySlots", desc := "()V" } : Jvm.MethodName)) ∈ lw_tbl := lw_at lw_m11 65 rfl
theorem q2581 : (Jvm.Cond.instanceMethod ({ cls := "CircuitCellsModel", name := "emptySlots", desc := "()V" } : Jvm.MethodName)) ∈ lw_all := lw_g (lw_at lw_m11 66 rfl) rfl
theorem q2582 : (Jvm.Cond.code ({ cls := "CircuitCellsModel", name := "emptySlots", desc := "()V" } : Jvm.MethodName) prog_22_method_43_code (2 : Nat) (Option.none : Option Jvm.ClassFile.FieldType)) ∈ lw_all := lw_g (lw_at lw_m11 67 rfl) rfl
theorem q2583 : (Jvm.Cond.methodLink "CircuitCellsModel" (250 : Nat) ({ cls := "CircuitCellsModel", name := "fail", desc := "(I)I" } : Jvm.MethodName)) ∈ lw_all := lw_g (lw_at lw_m11 68 rfl) rfl
theorem q2584 : (Jvm.Cond.privateMethod ({ cls := "CircuitCellsModel", name := "fail", desc := "(I)I" } : Jvm.MethodName)) ∈ lw_tbl := lw_at lw_m11 69 rfl
theorem q2585 : (Jvm.Cond.instanceMethod ({ cls := "CircuitCellsModel", name := "fail", desc := "(I)I" } : Jvm.MethodName)) ∈ lw_all := lw_g (lw_at lw_m11 70 rfl) rfl
theorem q2586 : (Jvm.Cond.code ({ cls := "CircuitCellsModel", name := "fail", desc := "(I)I" } : Jvm.MethodName) prog_22_method_3_code (2 : Nat) (Option.some Jvm.ClassFile.FieldType.int)) ∈ lw_all := lw_g (lw_at lw_m11 71 rfl) rfl
theorem q2587 : (Jvm.Cond.methodLink "CircuitCellsModel" (193 : Nat) ({ cls := "CircuitCellsModel", name := "stepOn", desc := "()V" } : Jvm.MethodName)) ∈ lw_all := lw_g (lw_at lw_m11 72 rfl) rfl
theorem q2588 : (Jvm.Cond.privateMethod ({ cls := "CircuitCellsModel", name := "stepOn", desc := "()V" } : Jvm.MethodName)) ∈ lw_tbl := lw_at lw_m11 73 rfl
theorem q2589 : (Jvm.Cond.instanceMethod ({ cls := "CircuitCellsModel", name := "stepOn", desc := "()V" } : Jvm.MethodName)) ∈ lw_all := lw_g (lw_at lw_m11 74 rfl) rfl
theorem q2590 : (Jvm.Cond.code ({ cls := "CircuitCellsModel", name := "stepOn", desc := "()V" } : Jvm.MethodName) prog_22_method_12_code (2 : Nat) (Option.none : Option Jvm.ClassFile.FieldType)) ∈ lw_all := lw_g (lw_at lw_m11 75 rfl) rfl
theorem q2591 : (Jvm.Cond.methodLink "CircuitCellsModel" (141 : Nat) ({ cls := "CircuitCellsModel", name := "byteAt", desc := "(I)I" } : Jvm.MethodName)) ∈ lw_all := lw_g (lw_at lw_m11 76 rfl) rfl
theorem q2592 : (Jvm.Cond.privateMethod ({ cls := "CircuitCellsModel", name := "byteAt", desc := "(I)I" } : Jvm.MethodName)) ∈ lw_tbl := lw_at lw_m11 77 rfl
theorem q2593 : (Jvm.Cond.instanceMethod ({ cls := "CircuitCellsModel", name := "byteAt", desc := "(I)I" } : Jvm.MethodName)) ∈ lw_all := lw_g (lw_at lw_m11 78 rfl) rfl
theorem q2594 : (Jvm.Cond.code ({ cls := "CircuitCellsModel", name := "byteAt", desc := "(I)I" } : Jvm.MethodName) prog_22_method_8_code (2 : Nat) (Option.some Jvm.ClassFile.FieldType.int)) ∈ lw_all := lw_g (lw_at lw_m11 79 rfl) rfl
theorem q2595 : (Jvm.Cond.methodLink "CircuitCellsModel" (151 : Nat) ({ cls := "CircuitCellsModel", name := "isLetter", desc := "(I)Z" } : Jvm.MethodName)) ∈ lw_all := lw_g (lw_at lw_m11 80 rfl) rfl
theorem q2596 : (Jvm.Cond.static ({ cls := "CircuitCellsModel", name := "isLetter", desc := "(I)Z" } : Jvm.MethodName)) ∈ lw_all := lw_g (lw_at lw_m11 81 rfl) rfl
theorem q2597 : (Jvm.Cond.code ({ cls := "CircuitCellsModel", name := "isLetter", desc := "(I)Z" } : Jvm.MethodName) prog_22_method_9_code (1 : Nat) (Option.some Jvm.ClassFile.FieldType.boolean)) ∈ lw_all := lw_g (lw_at lw_m11 82 rfl) rfl
theorem q2598 : (Jvm.Cond.methodLink "CircuitCellsModel" (155 : Nat) ({ cls := "CircuitCellsModel", name := "isDigit", desc := "(I)Z" } : Jvm.MethodName)) ∈ lw_all := lw_g (lw_at lw_m11 83 rfl) rfl
theorem q2599 : (Jvm.Cond.static ({ cls := "CircuitCellsModel", name := "isDigit", desc := "(I)Z" } : Jvm.MethodName)) ∈ lw_all := lw_g (lw_at lw_m11 84 rfl) rfl
theorem q2600 : (Jvm.Cond.code ({ cls := "CircuitCellsModel", name := "isDigit", desc := "(I)Z" } : Jvm.MethodName) prog_22_method_10_code (1 : Nat) (Option.some Jvm.ClassFile.FieldType.boolean)) ∈ lw_all := lw_g (lw_at lw_m11 85 rfl) rfl
theorem q2601 : (Jvm.Cond.constant "CircuitCellsModel" (161 : Nat) (100000 : Int32)) ∈ lw_all := lw_g (lw_at lw_m11 86 rfl) rfl
theorem q2602 : (Jvm.Cond.methodLink "CircuitCellsModel" (124 : Nat) ({ cls := "java/lang/Math", name := "min", desc := "(II)I" } : Jvm.MethodName)) ∈ lw_all := lw_g (lw_at lw_m11 87 rfl) rfl
theorem q2603 : (Jvm.Cond.methodLink "CircuitCellsModel" (162 : Nat) ({ cls := "CircuitCellsModel", name := "isMark", desc := "(I)Z" } : Jvm.MethodName)) ∈ lw_all := lw_g (lw_at lw_m11 88 rfl) rfl
theorem q2604 : (Jvm.Cond.static ({ cls := "CircuitCellsModel", name := "isMark", desc := "(I)Z" } : Jvm.MethodName)) ∈ lw_all := lw_g (lw_at lw_m11 89 rfl) rfl
theorem q2605 : (Jvm.Cond.code ({ cls := "CircuitCellsModel", name := "isMark", desc := "(I)Z" } : Jvm.MethodName) prog_22_method_11_code (1 : Nat) (Option.some Jvm.ClassFile.FieldType.boolean)) ∈ lw_all := lw_g (lw_at lw_m11 90 rfl) rfl
theorem q2606 : (Jvm.Cond.methodLink "CircuitCellsModel" (256 : Nat) ({ cls := "CircuitCellsModel", name := "readLine", desc := "(I)I" } : Jvm.MethodName)) ∈ lw_all := lw_g (lw_at lw_m11 91 rfl) rfl
theorem q2607 : (Jvm.Cond.privateMethod ({ cls := "CircuitCellsModel", name := "readLine", desc := "(I)I" } : Jvm.MethodName)) ∈ lw_tbl := lw_at lw_m11 92 rfl
theorem q2608 : (Jvm.Cond.instanceMethod ({ cls := "CircuitCellsModel", name := "readLine", desc := "(I)I" } : Jvm.MethodName)) ∈ lw_all := lw_g (lw_at lw_m11 93 rfl) rfl
theorem q2609 : (Jvm.Cond.code ({ cls := "CircuitCellsModel", name := "readLine", desc := "(I)I" } : Jvm.MethodName) prog_22_method_28_code (3 : Nat) (Option.some Jvm.ClassFile.FieldType.int)) ∈ lw_all := lw_g (lw_at lw_m11 94 rfl) rfl
theorem q2610 : (Jvm.Cond.methodLink "CircuitCellsModel" (206 : Nat) ({ cls := "CircuitCellsModel", name := "which", desc := "([Ljava/lang/String;)I" } : Jvm.MethodName)) ∈ lw_all := lw_g (lw_at lw_m11 95 rfl) rfl
theorem q2611 : (Jvm.Cond.privateMethod ({ cls := "CircuitCellsModel", name := "which", desc := "([Ljava/lang/String;)I" } : Jvm.MethodName)) ∈ lw_tbl := lw_at lw_m11 96 rfl
theorem q2612 : (Jvm.Cond.instanceMethod ({ cls := "CircuitCellsModel", name := "which", desc := "([Ljava/lang/String;)I" } : Jvm.MethodName)) ∈ lw_all := lw_g (lw_at lw_m11 97 rfl) rfl
theorem q2613 : (Jvm.Cond.code ({ cls := "CircuitCellsModel", name := "which", desc := "([Ljava/lang/String;)I" } : Jvm.MethodName) prog_22_method_15_code (3 : Nat) (Option.some Jvm.ClassFile.FieldType.int)) ∈ lw_all := lw_g (lw_at lw_m11 98 rfl) rfl
theorem q2614 : (Jvm.Cond.methodLink "CircuitCellsModel" (182 : Nat) ({ cls := "CircuitCellsModel", name := "is", desc := "(Ljava/lang/String;)Z" } : Jvm.MethodName)) ∈ lw_all := lw_g (lw_at lw_m11 99 rfl) rfl
theorem q2615 : (Jvm.Cond.privateMethod ({ cls := "CircuitCellsModel", name := "is", desc := "(Ljava/lang/String;)Z" } : Jvm.MethodName)) ∈ lw_tbl := lw_at lw_m11 100 rfl
theorem q2616 : (Jvm.Cond.instanceMethod ({ cls := "CircuitCellsModel", name := "is", desc := "(Ljava/lang/String;)Z" } : Jvm.MethodName)) ∈ lw_all := lw_g (lw_at lw_m11 101 rfl) rfl
theorem q2617 : (Jvm.Cond.code ({ cls := "CircuitCellsModel", name := "is", desc := "(Ljava/lang/String;)Z" } : Jvm.MethodName) prog_22_method_14_code (4 : Nat) (Option.some Jvm.ClassFile.FieldType.boolean)) ∈ lw_all := lw_g (lw_at lw_m11 102 rfl) rfl
theorem q2618 : (Jvm.Cond.methodLink "CircuitCellsModel" (174 : Nat) ({ cls := "java/lang/String", name := "length", desc := "()I" } : Jvm.MethodName)) ∈ lw_all := lw_g (lw_at lw_m11 103 rfl) rfl
theorem q2619 : (Jvm.Cond.methodLink "CircuitCellsModel" (178 : Nat) ({ cls := "java/lang/String", name := "charAt", desc := "(I)C" } : Jvm.MethodName)) ∈ lw_all := lw_g (lw_at lw_m11 104 rfl) rfl
theorem q2620 : (Jvm.Cond.methodLink "CircuitCellsModel" (189 : Nat) ({ cls := "CircuitCellsModel", name := "wrong", desc := "(I)V" } : Jvm.MethodName)) ∈ lw_all := lw_g (lw_at lw_m11 105 rfl) rfl
theorem q2621 : (Jvm.Cond.privateMethod ({ cls := "CircuitCellsModel", name := "wrong", desc := "(I)V" } : Jvm.MethodName)) ∈ lw_tbl := lw_at lw_m11 106 rfl
theorem q2622 : (Jvm.Cond.instanceMethod ({ cls := "CircuitCellsModel", name := "wrong", desc := "(I)V" } : Jvm.MethodName)) ∈ lw_all := lw_g (lw_at lw_m11 107 rfl) rfl
theorem q2623 : (Jvm.Cond.code ({ cls := "CircuitCellsModel", name := "wrong", desc := "(I)V" } : Jvm.MethodName) prog_22_method_13_code (2 : Nat) (Option.none : Option Jvm.ClassFile.FieldType)) ∈ lw_all := lw_g (lw_at lw_m11 108 rfl) rfl
theorem q2624 : (Jvm.Cond.methodLink "CircuitCellsModel" (240 : Nat) ({ cls := "CircuitCellsModel", name := "isOf", desc := "(II)Z" } : Jvm.MethodName)) ∈ lw_all := lw_g (lw_at lw_m11 109 rfl) rfl
theorem q2625 : (Jvm.Cond.static ({ cls := "CircuitCellsModel", name := "isOf", desc := "(II)Z" } : Jvm.MethodName)) ∈ lw_all := lw_g (lw_at lw_m11 110 rfl) rfl
theorem q2626 : (Jvm.Cond.code ({ cls := "CircuitCellsModel", name := "isOf", desc := "(II)Z" } : Jvm.MethodName) prog_22_method_5_code (2 : Nat) (Option.some Jvm.ClassFile.FieldType.boolean)) ∈ lw_all := lw_g (lw_at lw_m11 111 rfl) rfl
theorem q2627 : (Jvm.Cond.methodLink "CircuitCellsModel" (244 : Nat) ({ cls := "CircuitCellsModel", name := "readClause", desc := "(I)V" } : Jvm.MethodName)) ∈ lw_all := lw_g (lw_at lw_m11 112 rfl) rfl
theorem q2628 : (Jvm.Cond.privateMethod ({ cls := "CircuitCellsModel", name := "readClause", desc := "(I)V" } : Jvm.MethodName)) ∈ lw_tbl := lw_at lw_m11 113 rfl
theorem q2629 : (Jvm.Cond.instanceMethod ({ cls := "CircuitCellsModel", name := "readClause", desc := "(I)V" } : Jvm.MethodName)) ∈ lw_all := lw_g (lw_at lw_m11 114 rfl) rfl
theorem q2630 : (Jvm.Cond.code ({ cls := "CircuitCellsModel", name := "readClause", desc := "(I)V" } : Jvm.MethodName) prog_22_method_27_code (4 : Nat) (Option.none : Option Jvm.ClassFile.FieldType)) ∈ lw_all := lw_g (lw_at lw_m11 115 rfl) rfl
theorem q2631 : (Jvm.Cond.methodLink "CircuitCellsModel" (200 : Nat) ({ cls := "CircuitCellsModel", name := "readNumber", desc := "(II)I" } : Jvm.MethodName)) ∈ lw_all := lw_g (lw_at lw_m11 116 rfl) rfl
theorem q2632 : (Jvm.Cond.privateMethod ({ cls := "CircuitCellsModel", name := "readNumber", desc := "(II)I" } : Jvm.MethodName)) ∈ lw_tbl := lw_at lw_m11 117 rfl
theorem q2633 : (Jvm.Cond.instanceMethod ({ cls := "CircuitCellsModel", name := "readNumber", desc := "(II)I" } : Jvm.MethodName)) ∈ lw_all := lw_g (lw_at lw_m11 118 rfl) rfl
theorem q2634 : (Jvm.Cond.code ({ cls := "CircuitCellsModel", name := "readNumber", desc := "(II)I" } : Jvm.MethodName) prog_22_method_18_code (4 : Nat) (Option.some Jvm.ClassFile.FieldType.int)) ∈ lw_all := lw_g (lw_at lw_m11 119 rfl) rfl
theorem q2635 : (Jvm.Cond.methodLink "CircuitCellsModel" (186 : Nat) ({ cls := "CircuitCellsModel", name := "isMarked", desc := "(I)Z" } : Jvm.MethodName)) ∈ lw_all := lw_g (lw_at lw_m11 120 rfl) rfl
theorem q2636 : (Jvm.Cond.privateMethod ({ cls := "CircuitCellsModel", name := "isMarked", desc := "(I)Z" } : Jvm.MethodName)) ∈ lw_tbl := lw_at lw_m11 121 rfl
theorem q2637 : (Jvm.Cond.instanceMethod ({ cls := "CircuitCellsModel", name := "isMarked", desc := "(I)Z" } : Jvm.MethodName)) ∈ lw_all := lw_g (lw_at lw_m11 122 rfl) rfl
theorem q2638 : (Jvm.Cond.code ({ cls := "CircuitCellsModel", name := "isMarked", desc := "(I)Z" } : Jvm.MethodName) prog_22_method_16_code (2 : Nat) (Option.some Jvm.ClassFile.FieldType.boolean)) ∈ lw_all := lw_g (lw_at lw_m11 123 rfl) rfl
theorem q2639 : (Jvm.Cond.methodLink "CircuitCellsModel" (237 : Nat) ({ cls := "CircuitCellsModel", name := "readWord", desc := "()V" } : Jvm.MethodName)) ∈ lw_all := lw_g (lw_at lw_m11 124 rfl) rfl
theorem q2640 : (Jvm.Cond.privateMethod ({ cls := "CircuitCellsModel", name := "readWord", desc := "()V" } : Jvm.MethodName)) ∈ lw_tbl := lw_at lw_m11 125 rfl
theorem q2641 : (Jvm.Cond.instanceMethod ({ cls := "CircuitCellsModel", name := "readWord", desc := "()V" } : Jvm.MethodName)) ∈ lw_all := lw_g (lw_at lw_m11 126 rfl) rfl
theorem q2642 : (Jvm.Cond.code ({ cls := "CircuitCellsModel", name := "readWord", desc := "()V" } : Jvm.MethodName) prog_22_method_26_code (2 : Nat) (Option.none : Option Jvm.ClassFile.FieldType)) ∈ lw_all := lw_g (lw_at lw_m11 127 rfl) rfl
theorem q2643 : (Jvm.Cond.methodLink "CircuitCellsModel" (213 : Nat) ({ cls := "CircuitCellsModel", name := "readExpression", desc := "(I)V" } : Jvm.MethodName)) ∈ lw_all := lw_g (lw_at lw_m11 128 rfl) rfl
theorem q2644 : (Jvm.Cond.privateMethod ({ cls := "CircuitCellsModel", name := "readExpression", desc := "(I)V" } : Jvm.MethodName)) ∈ lw_tbl := lw_at lw_m11 129 rfl
theorem q2645 : (Jvm.Cond.instanceMethod ({ cls := "CircuitCellsModel", name := "readExpression", desc := "(I)V" } : Jvm.MethodName)) ∈ lw_all := lw_g (lw_at lw_m11 130 rfl) rfl
theorem q2646 : (Jvm.Cond.code ({ cls := "CircuitCellsModel", name := "readExpression", desc := "(I)V" } : Jvm.MethodName) prog_22_method_25_code (3 : Nat) (Option.none : Option Jvm.ClassFile.FieldType)) ∈ lw_all := lw_g (lw_at lw_m11 131 rfl) rfl
theorem q2647 : (Jvm.Cond.methodLink "CircuitCellsModel" (232 : Nat) ({ cls := "CircuitCellsModel", name := "readAnd", desc := "(I)V" } : Jvm.MethodName)) ∈ lw_all := lw_g (lw_at lw_m11 132 rfl) rfl
theorem q2648 : (Jvm.Cond.privateMethod ({ cls := "CircuitCellsModel", name := "readAnd", desc := "(I)V" } : Jvm.MethodName)) ∈ lw_tbl := lw_at lw_m11 133 rfl
theorem q2649 : (Jvm.Cond.instanceMethod ({ cls := "CircuitCellsModel", name := "readAnd", desc := "(I)V" } : Jvm.MethodName)) ∈ lw_all := lw_g (lw_at lw_m11 134 rfl) rfl
theorem q2650 : (Jvm.Cond.code ({ cls := "CircuitCellsModel", name := "readAnd", desc := "(I)V" } : Jvm.MethodName) prog_22_method_24_code (2 : Nat) (Option.none : Option Jvm.ClassFile.FieldType)) ∈ lw_all := lw_g (lw_at lw_m11 135 rfl) rfl
theorem q2651 : (Jvm.Cond.methodLink "CircuitCellsModel" (227 : Nat) ({ cls := "CircuitCellsModel", name := "readNot", desc := "(I)V" } : Jvm.MethodName)) ∈ lw_all := lw_g (lw_at lw_m11 136 rfl) rfl
theorem q2652 : (Jvm.Cond.privateMethod ({ cls := "CircuitCellsModel", name := "readNot", desc := "(I)V" } : Jvm.MethodName)) ∈ lw_tbl := lw_at lw_m11 137 rfl
theorem q2653 : (Jvm.Cond.instanceMethod ({ cls := "CircuitCellsModel", name := "readNot", desc := "(I)V" } : Jvm.MethodName)) ∈ lw_all := lw_g (lw_at lw_m11 138 rfl) rfl
theorem q2654 : (Jvm.Cond.code ({ cls := "CircuitCellsModel", name := "readNot", desc := "(I)V" } : Jvm.MethodName) prog_22_method_23_code (4 : Nat) (Option.none : Option Jvm.ClassFile.FieldType)) ∈ lw_all := lw_g (lw_at lw_m11 139 rfl) rfl
theorem q2655 : (Jvm.Cond.stringRef "CircuitCellsModel" (222 : Nat) "not") ∈ lw_tbl := lw_at lw_m11 140 rfl
theorem q2656 : (Jvm.Cond.methodLink "CircuitCellsModel" (224 : Nat) ({ cls := "CircuitCellsModel", name := "readSum", desc := "(I)V" } : Jvm.MethodName)) ∈ lw_all := lw_g (lw_at lw_m11 141 rfl) rfl
theorem q2657 : (Jvm.Cond.privateMethod ({ cls := "CircuitCellsModel", name := "readSum", desc := "(I)V" } : Jvm.MethodName)) ∈ lw_tbl := lw_at lw_m11 142 rfl
theorem q2658 : (Jvm.Cond.instanceMethod ({ cls := "CircuitCellsModel", name := "readSum", desc := "(I)V" } : Jvm.MethodName)) ∈ lw_all := lw_g (lw_at lw_m11 143 rfl) rfl
theorem q2659 : (Jvm.Cond.code ({ cls := "CircuitCellsModel", name := "readSum", desc := "(I)V" } : Jvm.MethodName) prog_22_method_22_code (3 : Nat) (Option.none : Option Jvm.ClassFile.FieldType)) ∈ lw_all := lw_g (lw_at lw_m11 144 rfl) rfl
theorem q2660 : (Jvm.Cond.methodLink "CircuitCellsModel" (219 : Nat) ({ cls := "CircuitCellsModel", name := "readProduct", desc := "(I)V" } : Jvm.MethodName)) ∈ lw_all := lw_g (lw_at lw_m11 145 rfl) rfl
theorem q2661 : (Jvm.Cond.privateMethod ({ cls := "CircuitCellsModel", name := "readProduct", desc := "(I)V" } : Jvm.MethodName)) ∈ lw_tbl := lw_at lw_m11 146 rfl
theorem q2662 : (Jvm.Cond.instanceMethod ({ cls := "CircuitCellsModel", name := "readProduct", desc := "(I)V" } : Jvm.MethodName)) ∈ lw_all := lw_g (lw_at lw_m11 147 rfl) rfl
theorem q2663 : (Jvm.Cond.code ({ cls := "CircuitCellsModel", name := "readProduct", desc := "(I)V" } : Jvm.MethodName) prog_22_method_21_code (3 : Nat) (Option.none : Option Jvm.ClassFile.FieldType)) ∈ lw_all := lw_g (lw_at lw_m11 148 rfl) rfl
theorem q2664 : (Jvm.Cond.methodLink "CircuitCellsModel" (216 : Nat) ({ cls := "CircuitCellsModel", name := "readPart", desc := "(I)V" } : Jvm.MethodName)) ∈ lw_all := lw_g (lw_at lw_m11 149 rfl) rfl
theorem q2665 : (Jvm.Cond.privateMethod ({ cls := "CircuitCellsModel", name := "readPart", desc := "(I)V" } : Jvm.MethodName)) ∈ lw_tbl := lw_at lw_m11 150 rfl
theorem q2666 : (Jvm.Cond.instanceMethod ({ cls := "CircuitCellsModel", name := "readPart", desc := "(I)V" } : Jvm.MethodName)) ∈ lw_all := lw_g (lw_at lw_m11 151 rfl) rfl
theorem q2667 : (Jvm.Cond.code ({ cls := "CircuitCellsModel", name := "readPart", desc := "(I)V" } : Jvm.MethodName) prog_22_method_20_code (3 : Nat) (Option.none : Option Jvm.ClassFile.FieldType)) ∈ lw_all := lw_g (lw_at lw_m11 152 rfl) rfl
theorem q2668 : (Jvm.Cond.methodLink "CircuitCellsModel" (203 : Nat) ({ cls := "CircuitCellsModel", name := "lay", desc := "(I)V" } : Jvm.MethodName)) ∈ lw_all := lw_g (lw_at lw_m11 153 rfl) rfl
theorem q2669 : (Jvm.Cond.privateMethod ({ cls := "CircuitCellsModel", name := "lay", desc := "(I)V" } : Jvm.MethodName)) ∈ lw_tbl := lw_at lw_m11 154 rfl
theorem q2670 : (Jvm.Cond.instanceMethod ({ cls := "CircuitCellsModel", name := "lay", desc := "(I)V" } : Jvm.MethodName)) ∈ lw_all := lw_g (lw_at lw_m11 155 rfl) rfl
theorem q2671 : (Jvm.Cond.code ({ cls := "CircuitCellsModel", name := "lay", desc := "(I)V" } : Jvm.MethodName) prog_22_method_19_code (3 : Nat) (Option.none : Option Jvm.ClassFile.FieldType)) ∈ lw_all := lw_g (lw_at lw_m11 156 rfl) rfl
theorem q2672 : (Jvm.Cond.methodLink "CircuitCellsModel" (210 : Nat) ({ cls := "CircuitCellsModel", name := "mark", desc := "(I)V" } : Jvm.MethodName)) ∈ lw_all := lw_g (lw_at lw_m11 157 rfl) rfl
theorem q2673 : (Jvm.Cond.privateMethod ({ cls := "CircuitCellsModel", name := "mark", desc := "(I)V" } : Jvm.MethodName)) ∈ lw_tbl := lw_at lw_m11 158 rfl
theorem q2674 : (Jvm.Cond.instanceMethod ({ cls := "CircuitCellsModel", name := "mark", desc := "(I)V" } : Jvm.MethodName)) ∈ lw_all := lw_g (lw_at lw_m11 159 rfl) rfl
theorem q2675 : (Jvm.Cond.code ({ cls := "CircuitCellsModel", name := "mark", desc := "(I)V" } : Jvm.MethodName) prog_22_method_17_code (2 : Nat) (Option.none : Option Jvm.ClassFile.FieldType)) ∈ lw_all := lw_g (lw_at lw_m11 160 rfl) rfl
theorem q2676 : (Jvm.Cond.stringRef "CircuitCellsModel" (230 : Nat) "and") ∈ lw_tbl := lw_at lw_m11 161 rfl
theorem q2677 : (Jvm.Cond.stringRef "CircuitCellsModel" (235 : Nat) "or") ∈ lw_tbl := lw_at lw_m11 162 rfl
theorem q2679 : (Jvm.Cond.instanceMethod ({ cls := "CircuitCellsModel", name := "fault", desc := "()I" } : Jvm.MethodName)) ∈ lw_all := lw_g (lw_at lw_m11 164 rfl) rfl
theorem q2680 : (Jvm.Cond.selects "CircuitCellsModel" ({ cls := "CircuitCellsModel", name := "fault", desc := "()I" } : Jvm.MethodName) ({ cls := "CircuitCellsModel", name := "fault", desc := "()I" } : Jvm.MethodName)) ∈ lw_all := lw_g (lw_at lw_m11 165 rfl) rfl
theorem q2681 : (Jvm.Cond.code ({ cls := "CircuitCellsModel", name := "fault", desc := "()I" } : Jvm.MethodName) prog_22_method_34_code (1 : Nat) (Option.some Jvm.ClassFile.FieldType.int)) ∈ lw_all := lw_g (lw_at lw_m11 166 rfl) rfl
theorem q2683 : (Jvm.Cond.instanceMethod ({ cls := "CircuitCellsModel", name := "count", desc := "(I)I" } : Jvm.MethodName)) ∈ lw_all := lw_g (lw_at lw_m11 168 rfl) rfl
theorem q2684 : (Jvm.Cond.selects "CircuitCellsModel" ({ cls := "CircuitCellsModel", name := "count", desc := "(I)I" } : Jvm.MethodName) ({ cls := "CircuitCellsModel", name := "count", desc := "(I)I" } : Jvm.MethodName)) ∈ lw_all := lw_g (lw_at lw_m11 169 rfl) rfl
theorem q2685 : (Jvm.Cond.code ({ cls := "CircuitCellsModel", name := "count", desc := "(I)I" } : Jvm.MethodName) prog_22_method_57_code (2 : Nat) (Option.some Jvm.ClassFile.FieldType.int)) ∈ lw_all := lw_g (lw_at lw_m11 170 rfl) rfl
theorem q2686 : (Jvm.Cond.methodLink "CircuitCellsModel" (325 : Nat) ({ cls := "CircuitCellsModel", name := "levelNow", desc := "()I" } : Jvm.MethodName)) ∈ lw_all := lw_g (lw_at lw_m11 171 rfl) rfl
theorem q2687 : (Jvm.Cond.privateMethod ({ cls := "CircuitCellsModel", name := "levelNow", desc := "()I" } : Jvm.MethodName)) ∈ lw_tbl := lw_at lw_m11 172 rfl
theorem q2688 : (Jvm.Cond.instanceMethod ({ cls := "CircuitCellsModel", name := "levelNow", desc := "()I" } : Jvm.MethodName)) ∈ lw_all := lw_g (lw_at lw_m11 173 rfl) rfl
theorem q2689 : (Jvm.Cond.code ({ cls := "CircuitCellsModel", name := "levelNow", desc := "()I" } : Jvm.MethodName) prog_22_method_46_code (4 : Nat) (Option.some Jvm.ClassFile.FieldType.int)) ∈ lw_all := lw_g (lw_at lw_m11 174 rfl) rfl
theorem q2690 : (Jvm.Cond.methodLink "CircuitCellsModel" (318 : Nat) ({ cls := "CircuitCellsModel", name := "spotNow", desc := "()I" } : Jvm.MethodName)) ∈ lw_all := lw_g (lw_at lw_m11 175 rfl) rfl
theorem q2691 : (Jvm.Cond.privateMethod ({ cls := "CircuitCellsModel", name := "spotNow", desc := "()I" } : Jvm.MethodName)) ∈ lw_tbl := lw_at lw_m11 176 rfl
theorem q2692 : (Jvm.Cond.instanceMethod ({ cls := "CircuitCellsModel", name := "spotNow", desc := "()I" } : Jvm.MethodName)) ∈ lw_all := lw_g (lw_at lw_m11 177 rfl) rfl
theorem q2693 : (Jvm.Cond.code ({ cls := "CircuitCellsModel", name := "spotNow", desc := "()I" } : Jvm.MethodName) prog_22_method_42_code (1 : Nat) (Option.some Jvm.ClassFile.FieldType.int)) ∈ lw_all := lw_g (lw_at lw_m11 178 rfl) rfl
theorem q2694 : (Jvm.Cond.methodLink "CircuitCellsModel" (130 : Nat) ({ cls := "java/lang/Math", name := "max", desc := "(II)I" } : Jvm.MethodName)) ∈ lw_all := lw_g (lw_at lw_m11 179 rfl) rfl
theorem q2695 : (Jvm.Cond.methodLink "CircuitCellsModel" (352 : Nat) ({ cls := "CircuitCellsModel", name := "regained", desc := "()I" } : Jvm.MethodName)) ∈ lw_all := lw_g (lw_at lw_m11 180 rfl) rfl
theorem q2696 : (Jvm.Cond.privateMethod ({ cls := "CircuitCellsModel", name := "regained", desc := "()I" } : Jvm.MethodName)) ∈ lw_tbl := lw_at lw_m11 181 rfl
theorem q2697 : (Jvm.Cond.instanceMethod ({ cls := "CircuitCellsModel", name := "regained", desc := "()I" } : Jvm.MethodName)) ∈ lw_all := lw_g (lw_at lw_m11 182 rfl) rfl
theorem q2698 : (Jvm.Cond.code ({ cls := "CircuitCellsModel", name := "regained", desc := "()I" } : Jvm.MethodName) prog_22_method_54_code (1 : Nat) (Option.some Jvm.ClassFile.FieldType.int)) ∈ lw_all := lw_g (lw_at lw_m11 183 rfl) rfl
theorem q2699 : (Jvm.Cond.methodLink "CircuitCellsModel" (355 : Nat) ({ cls := "CircuitCellsModel", name := "samplesKept", desc := "()I" } : Jvm.MethodName)) ∈ lw_all := lw_g (lw_at lw_m11 184 rfl) rfl
theorem q2700 : (Jvm.Cond.privateMethod ({ cls := "CircuitCellsModel", name := "samplesKept", desc := "()I" } : Jvm.MethodName)) ∈ lw_tbl := lw_at lw_m11 185 rfl
theorem q2701 : (Jvm.Cond.instanceMethod ({ cls := "CircuitCellsModel", name := "samplesKept", desc := "()I" } : Jvm.MethodName)) ∈ lw_all := lw_g (lw_at lw_m11 186 rfl) rfl
theorem q2702 : (Jvm.Cond.code ({ cls := "CircuitCellsModel", name := "samplesKept", desc := "()I" } : Jvm.MethodName) prog_22_method_55_code (1 : Nat) (Option.some Jvm.ClassFile.FieldType.int)) ∈ lw_all := lw_g (lw_at lw_m11 187 rfl) rfl
theorem q2704 : (Jvm.Cond.instanceMethod ({ cls := "CircuitCellsModel", name := "set", desc := "(I)I" } : Jvm.MethodName)) ∈ lw_all := lw_g (lw_at lw_m11 189 rfl) rfl
theorem q2705 : (Jvm.Cond.selects "CircuitCellsModel" ({ cls := "CircuitCellsModel", name := "set", desc := "(I)I" } : Jvm.MethodName) ({ cls := "CircuitCellsModel", name := "set", desc := "(I)I" } : Jvm.MethodName)) ∈ lw_all := lw_g (lw_at lw_m11 190 rfl) rfl
theorem q2706 : (Jvm.Cond.code ({ cls := "CircuitCellsModel", name := "set", desc := "(I)I" } : Jvm.MethodName) prog_22_method_58_code (2 : Nat) (Option.some Jvm.ClassFile.FieldType.int)) ∈ lw_all := lw_g (lw_at lw_m11 191 rfl) rfl
theorem q2708 : (Jvm.Cond.instanceMethod ({ cls := "CircuitCellsModel", name := "flying", desc := "(II)I" } : Jvm.MethodName)) ∈ lw_all := lw_g (lw_at lw_m11 193 rfl) rfl
theorem q2709 : (Jvm.Cond.selects "CircuitCellsModel" ({ cls := "CircuitCellsModel", name := "flying", desc := "(II)I" } : Jvm.MethodName) ({ cls := "CircuitCellsModel", name := "flying", desc := "(II)I" } : Jvm.MethodName)) ∈ lw_all := lw_g (lw_at lw_m11 194 rfl) rfl
theorem q2710 : (Jvm.Cond.code ({ cls := "CircuitCellsModel", name := "flying", desc := "(II)I" } : Jvm.MethodName) prog_22_method_59_code (3 : Nat) (Option.some Jvm.ClassFile.FieldType.int)) ∈ lw_all := lw_g (lw_at lw_m11 195 rfl) rfl
theorem q2711 : (Jvm.Cond.methodLink "CircuitCellsModel" (358 : Nat) ({ cls := "CircuitCellsModel", name := "isIn", desc := "(JJJ)Z" } : Jvm.MethodName)) ∈ lw_all := lw_g (lw_at lw_m11 196 rfl) rfl
theorem q2712 : (Jvm.Cond.static ({ cls := "CircuitCellsModel", name := "isIn", desc := "(JJJ)Z" } : Jvm.MethodName)) ∈ lw_all := lw_g (lw_at lw_m11 197 rfl) rfl
theorem q2713 : (Jvm.Cond.code ({ cls := "CircuitCellsModel", name := "isIn", desc := "(JJJ)Z" } : Jvm.MethodName) prog_22_method_4_code (6 : Nat) (Option.some Jvm.ClassFile.FieldType.boolean)) ∈ lw_all := lw_g (lw_at lw_m11 198 rfl) rfl
theorem q2714 : (Jvm.Cond.constantLong "CircuitCellsModel" (362 : Nat) (2 : Int64)) ∈ lw_all := lw_g (lw_at lw_m11 199 rfl) rfl
theorem q2716 : (Jvm.Cond.instanceMethod ({ cls := "CircuitCellsModel", name := "slot", desc := "(I)I" } : Jvm.MethodName)) ∈ lw_all := lw_g (lw_at lw_m11 201 rfl) rfl
theorem q2717 : (Jvm.Cond.selects "CircuitCellsModel" ({ cls := "CircuitCellsModel", name := "slot", desc := "(I)I" } : Jvm.MethodName) ({ cls := "CircuitCellsModel", name := "slot", desc := "(I)I" } : Jvm.MethodName)) ∈ lw_all := lw_g (lw_at lw_m11 202 rfl) rfl
theorem q2718 : (Jvm.Cond.code ({ cls := "CircuitCellsModel", name := "slot", desc := "(I)I" } : Jvm.MethodName) prog_22_method_60_code (2 : Nat) (Option.some Jvm.ClassFile.FieldType.int)) ∈ lw_all := lw_g (lw_at lw_m11 203 rfl) rfl
theorem q2719 : (Jvm.Cond.constantLong "CircuitCellsModel" (364 : Nat) (63 : Int64)) ∈ lw_all := lw_g (lw_at lw_m11 204 rfl) rfl
theorem q2721 : (Jvm.Cond.instanceMethod ({ cls := "CircuitCellsModel", name := "played", desc := "(II)I" } : Jvm.MethodName)) ∈ lw_all := lw_g (lw_at lw_m11 206 rfl) rfl
theorem q2722 : (Jvm.Cond.selects "CircuitCellsModel" ({ cls := "CircuitCellsModel", name := "played", desc := "(II)I" } : Jvm.MethodName) ({ cls := "CircuitCellsModel", name := "played", desc := "(II)I" } : Jvm.MethodName)) ∈ lw_all := lw_g (lw_at lw_m11 207 rfl) rfl
theorem q2723 : (Jvm.Cond.code ({ cls := "CircuitCellsModel", name := "played", desc := "(II)I" } : Jvm.MethodName) prog_22_method_61_code (3 : Nat) (Option.some Jvm.ClassFile.FieldType.int)) ∈ lw_all := lw_g (lw_at lw_m11 208 rfl) rfl
theorem q2724 : (Jvm.Cond.methodLink "CircuitCellsModel" (366 : Nat) ({ cls := "CircuitCellsModel", name := "playedKept", desc := "()I" } : Jvm.MethodName)) ∈ lw_all := lw_g (lw_at lw_m11 209 rfl) rfl
theorem q2725 : (Jvm.Cond.privateMethod ({ cls := "CircuitCellsModel", name := "playedKept", desc := "()I" } : Jvm.MethodName)) ∈ lw_tbl := lw_at lw_m11 210 rfl
theorem q2726 : (Jvm.Cond.instanceMethod ({ cls := "CircuitCellsModel", name := "playedKept", desc := "()I" } : Jvm.MethodName)) ∈ lw_all := lw_g (lw_at lw_m11 211 rfl) rfl
theorem q2727 : (Jvm.Cond.code ({ cls := "CircuitCellsModel", name := "playedKept", desc := "()I" } : Jvm.MethodName) prog_22_method_56_code (1 : Nat) (Option.some Jvm.ClassFile.FieldType.int)) ∈ lw_all := lw_g (lw_at lw_m11 212 rfl) rfl
theorem q2729 : (Jvm.Cond.instanceMethod ({ cls := "CircuitCellsModel", name := "spans", desc := "(II)I" } : Jvm.MethodName)) ∈ lw_all := lw_g (lw_at lw_m11 214 rfl) rfl
theorem q2730 : (Jvm.Cond.selects "CircuitCellsModel" ({ cls := "CircuitCellsModel", name := "spans", desc := "(II)I" } : Jvm.MethodName) ({ cls := "CircuitCellsModel", name := "spans", desc := "(II)I" } : Jvm.MethodName)) ∈ lw_all := lw_g (lw_at lw_m11 215 rfl) rfl
theorem q2731 : (Jvm.Cond.code ({ cls := "CircuitCellsModel", name := "spans", desc := "(II)I" } : Jvm.MethodName) prog_22_method_62_code (7 : Nat) (Option.some Jvm.ClassFile.FieldType.int)) ∈ lw_all := lw_g (lw_at lw_m11 216 rfl) rfl
theorem q2732 : (Jvm.Cond.constantLong "CircuitCellsModel" (369 : Nat) (128 : Int64)) ∈ lw_all := lw_g (lw_at lw_m11 217 rfl) rfl
theorem q2734 : (Jvm.Cond.instanceMethod ({ cls := "CircuitCellsModel", name := "sample", desc := "(I)I" } : Jvm.MethodName)) ∈ lw_all := lw_g (lw_at lw_m11 219 rfl) rfl
theorem q2735 : (Jvm.Cond.selects "CircuitCellsModel" ({ cls := "CircuitCellsModel", name := "sample", desc := "(I)I" } : Jvm.MethodName) ({ cls := "CircuitCellsModel", name := "sample", desc := "(I)I" } : Jvm.MethodName)) ∈ lw_all := lw_g (lw_at lw_m11 220 rfl) rfl
theorem q2736 : (Jvm.Cond.code ({ cls := "CircuitCellsModel", name := "sample", desc := "(I)I" } : Jvm.MethodName) prog_22_method_64_code (2 : Nat) (Option.some Jvm.ClassFile.FieldType.int)) ∈ lw_all := lw_g (lw_at lw_m11 221 rfl) rfl
theorem q2737 : (Jvm.Cond.methodLink "CircuitCellsModel" (371 : Nat) ({ cls := "CircuitCellsModel", name := "sampleAt", desc := "(I)I" } : Jvm.MethodName)) ∈ lw_all := lw_g (lw_at lw_m11 222 rfl) rfl
theorem q2738 : (Jvm.Cond.privateMethod ({ cls := "CircuitCellsModel", name := "sampleAt", desc := "(I)I" } : Jvm.MethodName)) ∈ lw_tbl := lw_at lw_m11 223 rfl
theorem q2739 : (Jvm.Cond.instanceMethod ({ cls := "CircuitCellsModel", name := "sampleAt", desc := "(I)I" } : Jvm.MethodName)) ∈ lw_all := lw_g (lw_at lw_m11 224 rfl) rfl
theorem q2740 : (Jvm.Cond.code ({ cls := "CircuitCellsModel", name := "sampleAt", desc := "(I)I" } : Jvm.MethodName) prog_22_method_63_code (2 : Nat) (Option.some Jvm.ClassFile.FieldType.int)) ∈ lw_all := lw_g (lw_at lw_m11 225 rfl) rfl
theorem q2742 : (Jvm.Cond.instanceMethod ({ cls := "CircuitCellsModel", name := "wander", desc := "(I)I" } : Jvm.MethodName)) ∈ lw_all := lw_g (lw_at lw_m11 227 rfl) rfl
theorem q2743 : (Jvm.Cond.selects "CircuitCellsModel" ({ cls := "CircuitCellsModel", name := "wander", desc := "(I)I" } : Jvm.MethodName) ({ cls := "CircuitCellsModel", name := "wander", desc := "(I)I" } : Jvm.MethodName)) ∈ lw_all := lw_g (lw_at lw_m11 228 rfl) rfl
theorem q2744 : (Jvm.Cond.code ({ cls := "CircuitCellsModel", name := "wander", desc := "(I)I" } : Jvm.MethodName) prog_22_method_66_code (6 : Nat) (Option.some Jvm.ClassFile.FieldType.int)) ∈ lw_all := lw_g (lw_at lw_m11 229 rfl) rfl
theorem q2745 : (Jvm.Cond.methodLink "CircuitCellsModel" (376 : Nat) ({ cls := "CircuitCellsModel", name := "rangeOf", desc := "(II)I" } : Jvm.MethodName)) ∈ lw_all := lw_g (lw_at lw_m11 230 rfl) rfl
theorem q2746 : (Jvm.Cond.privateMethod ({ cls := "CircuitCellsModel", name := "rangeOf", desc := "(II)I" } : Jvm.MethodName)) ∈ lw_tbl := lw_at lw_m11 231 rfl
theorem q2747 : (Jvm.Cond.instanceMethod ({ cls := "CircuitCellsModel", name := "rangeOf", desc := "(II)I" } : Jvm.MethodName)) ∈ lw_all := lw_g (lw_at lw_m11 232 rfl) rfl
theorem q2748 : (Jvm.Cond.code ({ cls := "CircuitCellsModel", name := "rangeOf", desc := "(II)I" } : Jvm.MethodName) prog_22_method_65_code (6 : Nat) (Option.some Jvm.ClassFile.FieldType.int)) ∈ lw_all := lw_g (lw_at lw_m11 233 rfl) rfl
theorem q2749 : (Jvm.Cond.constant "CircuitCellsModel" (374 : Nat) (100000000 : Int32)) ∈ lw_all := lw_g (lw_at lw_m11 234 rfl) rfl
theorem q2750 : (Jvm.Cond.constant "CircuitCellsModel" (375 : Nat) (-100000000 : Int32)) ∈ lw_all := lw_g (lw_at lw_m11 235 rfl) rfl
theorem q2752 : (Jvm.Cond.instanceMethod ({ cls := "CircuitCellsModel", name := "steps", desc := "(I)I" } : Jvm.MethodName)) ∈ lw_all := lw_g (lw_at lw_m11 237 rfl) rfl
theorem q2753 : (Jvm.Cond.selects "CircuitCellsModel" ({ cls := "CircuitCellsModel", name := "steps", desc := "(I)I" } : Jvm.MethodName) ({ cls := "CircuitCellsModel", name := "steps", desc := "(I)I" } : Jvm.MethodName)) ∈ lw_all := lw_g (lw_at lw_m11 238 rfl) rfl
theorem q2754 : (Jvm.Cond.code ({ cls := "CircuitCellsModel", name := "steps", desc := "(I)I" } : Jvm.MethodName) prog_22_method_70_code (2 : Nat) (Option.some Jvm.ClassFile.FieldType.int)) ∈ lw_all := lw_g (lw_at lw_m11 239 rfl) rfl
theorem q2755 : (Jvm.Cond.constantLong "CircuitCellsModel" (379 : Nat) (50 : Int64)) ∈ lw_all := lw_g (lw_at lw_m12 0 rfl) rfl
theorem q2756 : (Jvm.Cond.methodLink "CircuitCellsModel" (381 : Nat) ({ cls := "CircuitCellsModel", name := "refuse", desc := "(I)I" } : Jvm.MethodName)) ∈ lw_all := lw_g (lw_at lw_m12 1 rfl) rfl
theorem q2757 : (Jvm.Cond.privateMethod ({ cls := "CircuitCellsModel", name := "refuse", desc := "(I)I" } : Jvm.MethodName)) ∈ lw_tbl := lw_at lw_m12 2 rfl
theorem q2758 : (Jvm.Cond.instanceMethod ({ cls := "CircuitCellsModel", name := "refuse", desc := "(I)I" } : Jvm.MethodName)) ∈ lw_all := lw_g (lw_at lw_m12 3 rfl) rfl
theorem q2759 : (Jvm.Cond.code ({ cls := "CircuitCellsModel", name := "refuse", desc := "(I)I" } : Jvm.MethodName) prog_22_method_67_code (2 : Nat) (Option.some Jvm.ClassFile.FieldType.int)) ∈ lw_all := lw_g (lw_at lw_m12 4 rfl) rfl
theorem q2760 : (Jvm.Cond.methodLink "CircuitCellsModel" (384 : Nat) ({ cls := "CircuitCellsModel", name := "keep", desc := "()V" } : Jvm.MethodName)) ∈ lw_all := lw_g (lw_at lw_m12 5 rfl) rfl
theorem q2761 : (Jvm.Cond.privateMethod ({ cls := "CircuitCellsModel", name := "keep", desc := "()V" } : Jvm.MethodName)) ∈ lw_tbl := lw_at lw_m12 6 rfl
theorem q2762 : (Jvm.Cond.instanceMethod ({ cls := "CircuitCellsModel", name := "keep", desc := "()V" } : Jvm.MethodName)) ∈ lw_all := lw_g (lw_at lw_m12 7 rfl) rfl
theorem q2763 : (Jvm.Cond.code ({ cls := "CircuitCellsModel", name := "keep", desc := "()V" } : Jvm.MethodName) prog_22_method_69_code (2 : Nat) (Option.none : Option Jvm.ClassFile.FieldType)) ∈ lw_all := lw_g (lw_at lw_m12 8 rfl) rfl
theorem q2764 : (Jvm.Cond.methodLink "CircuitCellsModel" (387 : Nat) ({ cls := "CircuitCellsModel", name := "goOn", desc := "(I)V" } : Jvm.MethodName)) ∈ lw_all := lw_g (lw_at lw_m12 9 rfl) rfl
theorem q2765 : (Jvm.Cond.privateMethod ({ cls := "CircuitCellsModel", name := "goOn", desc := "(I)V" } : Jvm.MethodName)) ∈ lw_tbl := lw_at lw_m12 10 rfl
theorem q2766 : (Jvm.Cond.instanceMethod ({ cls := "CircuitCellsModel", name := "goOn", desc := "(I)V" } : Jvm.MethodName)) ∈ lw_all := lw_g (lw_at lw_m12 11 rfl) rfl
theorem q2767 : (Jvm.Cond.code ({ cls := "CircuitCellsModel", name := "goOn", desc := "(I)V" } : Jvm.MethodName) prog_22_method_53_code (3 : Nat) (Option.none : Option Jvm.ClassFile.FieldType)) ∈ lw_all := lw_g (lw_at lw_m12 12 rfl) rfl
theorem q2768 : (Jvm.Cond.methodLink "CircuitCellsModel" (349 : Nat) ({ cls := "CircuitCellsModel", name := "aStep", desc := "()V" } : Jvm.MethodName)) ∈ lw_all := lw_g (lw_at lw_m12 13 rfl) rfl
theorem q2769 : (Jvm.Cond.privateMethod ({ cls := "CircuitCellsModel", name := "aStep", desc := "()V" } : Jvm.MethodName)) ∈ lw_tbl := lw_at lw_m12 14 rfl
theorem q2770 : (Jvm.Cond.instanceMethod ({ cls := "CircuitCellsModel", name := "aStep", desc := "()V" } : Jvm.MethodName)) ∈ lw_all := lw_g (lw_at lw_m12 15 rfl) rfl
theorem q2771 : (Jvm.Cond.code ({ cls := "CircuitCellsModel", name := "aStep", desc := "()V" } : Jvm.MethodName) prog_22_method_52_code (1 : Nat) (Option.none : Option Jvm.ClassFile.FieldType)) ∈ lw_all := lw_g (lw_at lw_m12 16 rfl) rfl
theorem q2772 : (Jvm.Cond.methodLink "CircuitCellsModel" (337 : Nat) ({ cls := "CircuitCellsModel", name := "makeOctets", desc := "()V" } : Jvm.MethodName)) ∈ lw_all := lw_g (lw_at lw_m12 17 rfl) rfl
theorem q2773 : (Jvm.Cond.privateMethod ({ cls := "CircuitCellsModel", name := "makeOctets", desc := "()V" } : Jvm.MethodName)) ∈ lw_tbl := lw_at lw_m12 18 rfl
theorem q2774 : (Jvm.Cond.instanceMethod ({ cls := "CircuitCellsModel", name := "makeOctets", desc := "()V" } : Jvm.MethodName)) ∈ lw_all := lw_g (lw_at lw_m12 19 rfl) rfl
theorem q2775 : (Jvm.Cond.code ({ cls := "CircuitCellsModel", name := "makeOctets", desc := "()V" } : Jvm.MethodName) prog_22_method_41_code (1 : Nat) (Option.none : Option Jvm.ClassFile.FieldType)) ∈ lw_all := lw_g (lw_at lw_m12 20 rfl) rfl
theorem q2776 : (Jvm.Cond.methodLink "CircuitCellsModel" (315 : Nat) ({ cls := "CircuitCellsModel", name := "send", desc := "()V" } : Jvm.MethodName)) ∈ lw_all := lw_g (lw_at lw_m12 21 rfl) rfl
theorem q2777 : (Jvm.Cond.privateMethod ({ cls := "CircuitCellsModel", name := "send", desc := "()V" } : Jvm.MethodName)) ∈ lw_tbl := lw_at lw_m12 22 rfl
theorem q2778 : (Jvm.Cond.instanceMethod ({ cls := "CircuitCellsModel", name := "send", desc := "()V" } : Jvm.MethodName)) ∈ lw_all := lw_g (lw_at lw_m12 23 rfl) rfl
theorem q2779 : (Jvm.Cond.code ({ cls := "CircuitCellsModel", name := "send", desc := "()V" } : Jvm.MethodName) prog_22_method_40_code (3 : Nat) (Option.none : Option Jvm.ClassFile.FieldType)) ∈ lw_all := lw_g (lw_at lw_m12 24 rfl) rfl
theorem q2780 : (Jvm.Cond.methodLink "CircuitCellsModel" (304 : Nat) ({ cls := "CircuitCellsModel", name := "ruleNow", desc := "(Z)I" } : Jvm.MethodName)) ∈ lw_all := lw_g (lw_at lw_m12 25 rfl) rfl
theorem q2781 : (Jvm.Cond.privateMethod ({ cls := "CircuitCellsModel", name := "ruleNow", desc := "(Z)I" } : Jvm.MethodName)) ∈ lw_tbl := lw_at lw_m12 26 rfl
theorem q2782 : (Jvm.Cond.instanceMethod ({ cls := "CircuitCellsModel", name := "ruleNow", desc := "(Z)I" } : Jvm.MethodName)) ∈ lw_all := lw_g (lw_at lw_m12 27 rfl) rfl
theorem q2783 : (Jvm.Cond.code ({ cls := "CircuitCellsModel", name := "ruleNow", desc := "(Z)I" } : Jvm.MethodName) prog_22_method_37_code (5 : Nat) (Option.some Jvm.ClassFile.FieldType.int)) ∈ lw_all := lw_g (lw_at lw_m12 28 rfl) rfl
theorem q2784 : (Jvm.Cond.methodLink "CircuitCellsModel" (290 : Nat) ({ cls := "CircuitCellsModel", name := "valueNow", desc := "([II)I" } : Jvm.MethodName)) ∈ lw_all := lw_g (lw_at lw_m12 29 rfl) rfl
theorem q2785 : (Jvm.Cond.privateMethod ({ cls := "CircuitCellsModel", name := "valueNow", desc := "([II)I" } : Jvm.MethodName)) ∈ lw_tbl := lw_at lw_m12 30 rfl
theorem q2786 : (Jvm.Cond.instanceMethod ({ cls := "CircuitCellsModel", name := "valueNow", desc := "([II)I" } : Jvm.MethodName)) ∈ lw_all := lw_g (lw_at lw_m12 31 rfl) rfl
theorem q2787 : (Jvm.Cond.code ({ cls := "CircuitCellsModel", name := "valueNow", desc := "([II)I" } : Jvm.MethodName) prog_22_method_38_code (6 : Nat) (Option.some Jvm.ClassFile.FieldType.int)) ∈ lw_all := lw_g (lw_at lw_m12 32 rfl) rfl
theorem q2788 : (Jvm.Cond.methodLink "CircuitCellsModel" (294 : Nat) ({ cls := "CircuitCellsModel", name := "reckon", desc := "(III)I" } : Jvm.MethodName)) ∈ lw_all := lw_g (lw_at lw_m12 33 rfl) rfl
theorem q2789 : (Jvm.Cond.static ({ cls := "CircuitCellsModel", name := "reckon", desc := "(III)I" } : Jvm.MethodName)) ∈ lw_all := lw_g (lw_at lw_m12 34 rfl) rfl
theorem q2790 : (Jvm.Cond.code ({ cls := "CircuitCellsModel", name := "reckon", desc := "(III)I" } : Jvm.MethodName) prog_22_method_35_code (3 : Nat) (Option.some Jvm.ClassFile.FieldType.int)) ∈ lw_all := lw_g (lw_at lw_m12 35 rfl) rfl
theorem q2791 : (Jvm.Cond.methodLink "CircuitCellsModel" (308 : Nat) ({ cls := "CircuitCellsModel", name := "within", desc := "(III)I" } : Jvm.MethodName)) ∈ lw_all := lw_g (lw_at lw_m12 36 rfl) rfl
theorem q2792 : (Jvm.Cond.static ({ cls := "CircuitCellsModel", name := "within", desc := "(III)I" } : Jvm.MethodName)) ∈ lw_all := lw_g (lw_at lw_m12 37 rfl) rfl
theorem q2793 : (Jvm.Cond.code ({ cls := "CircuitCellsModel", name := "within", desc := "(III)I" } : Jvm.MethodName) prog_22_method_6_code (3 : Nat) (Option.some Jvm.ClassFile.FieldType.int)) ∈ lw_all := lw_g (lw_at lw_m12 38 rfl) rfl
theorem q2794 : (Jvm.Cond.methodLink "CircuitCellsModel" (311 : Nat) ({ cls := "CircuitCellsModel", name := "isLost", desc := "()Z" } : Jvm.MethodName)) ∈ lw_all := lw_g (lw_at lw_m12 39 rfl) rfl
theorem q2795 : (Jvm.Cond.privateMethod ({ cls := "CircuitCellsModel", name := "isLost", desc := "()Z" } : Jvm.MethodName)) ∈ lw_tbl := lw_at lw_m12 40 rfl
theorem q2796 : (Jvm.Cond.instanceMethod ({ cls := "CircuitCellsModel", name := "isLost", desc := "()Z" } : Jvm.MethodName)) ∈ lw_all := lw_g (lw_at lw_m12 41 rfl) rfl
theorem q2797 : (Jvm.Cond.code ({ cls := "CircuitCellsModel", name := "isLost", desc := "()Z" } : Jvm.MethodName) prog_22_method_39_code (1 : Nat) (Option.some Jvm.ClassFile.FieldType.boolean)) ∈ lw_all := lw_g (lw_at lw_m12 42 rfl) rfl
theorem q2798 : (Jvm.Cond.methodLink "CircuitCellsModel" (340 : Nat) ({ cls := "CircuitCellsModel", name := "receive", desc := "()V" } : Jvm.MethodName)) ∈ lw_all := lw_g (lw_at lw_m12 43 rfl) rfl
theorem q2799 : (Jvm.Cond.privateMethod ({ cls := "CircuitCellsModel", name := "receive", desc := "()V" } : Jvm.MethodName)) ∈ lw_tbl := lw_at lw_m12 44 rfl
theorem q2800 : (Jvm.Cond.instanceMethod ({ cls := "CircuitCellsModel", name := "receive", desc := "()V" } : Jvm.MethodName)) ∈ lw_all := lw_g (lw_at lw_m12 45 rfl) rfl
theorem q2801 : (Jvm.Cond.code ({ cls := "CircuitCellsModel", name := "receive", desc := "()V" } : Jvm.MethodName) prog_22_method_45_code (8 : Nat) (Option.none : Option Jvm.ClassFile.FieldType)) ∈ lw_all := lw_g (lw_at lw_m12 46 rfl) rfl
theorem q2802 : (Jvm.Cond.methodLink "CircuitCellsModel" (321 : Nat) ({ cls := "CircuitCellsModel", name := "come", desc := "(II)V" } : Jvm.MethodName)) ∈ lw_all := lw_g (lw_at lw_m12 47 rfl) rfl
theorem q2803 : (Jvm.Cond.privateMethod ({ cls := "CircuitCellsModel", name := "come", desc := "(II)V" } : Jvm.MethodName)) ∈ lw_tbl := lw_at lw_m12 48 rfl
theorem q2804 : (Jvm.Cond.instanceMethod ({ cls := "CircuitCellsModel", name := "come", desc := "(II)V" } : Jvm.MethodName)) ∈ lw_all := lw_g (lw_at lw_m12 49 rfl) rfl
theorem q2805 : (Jvm.Cond.code ({ cls := "CircuitCellsModel", name := "come", desc := "(II)V" } : Jvm.MethodName) prog_22_method_44_code (6 : Nat) (Option.none : Option Jvm.ClassFile.FieldType)) ∈ lw_all := lw_g (lw_at lw_m12 50 rfl) rfl
theorem q2806 : (Jvm.Cond.methodLink "CircuitCellsModel" (343 : Nat) ({ cls := "CircuitCellsModel", name := "steer", desc := "()V" } : Jvm.MethodName)) ∈ lw_all := lw_g (lw_at lw_m12 51 rfl) rfl
theorem q2807 : (Jvm.Cond.privateMethod ({ cls := "CircuitCellsModel", name := "steer", desc := "()V" } : Jvm.MethodName)) ∈ lw_tbl := lw_at lw_m12 52 rfl
theorem q2808 : (Jvm.Cond.instanceMethod ({ cls := "CircuitCellsModel", name := "steer", desc := "()V" } : Jvm.MethodName)) ∈ lw_all := lw_g (lw_at lw_m12 53 rfl) rfl
theorem q2809 : (Jvm.Cond.code ({ cls := "CircuitCellsModel", name := "steer", desc := "()V" } : Jvm.MethodName) prog_22_method_47_code (3 : Nat) (Option.none : Option Jvm.ClassFile.FieldType)) ∈ lw_all := lw_g (lw_at lw_m12 54 rfl) rfl
theorem q2810 : (Jvm.Cond.methodLink "CircuitCellsModel" (346 : Nat) ({ cls := "CircuitCellsModel", name := "play", desc := "()V" } : Jvm.MethodName)) ∈ lw_all := lw_g (lw_at lw_m12 55 rfl) rfl
theorem q2811 : (Jvm.Cond.privateMethod ({ cls := "CircuitCellsModel", name := "play", desc := "()V" } : Jvm.MethodName)) ∈ lw_tbl := lw_at lw_m12 56 rfl
theorem q2812 : (Jvm.Cond.instanceMethod ({ cls := "CircuitCellsModel", name := "play", desc := "()V" } : Jvm.MethodName)) ∈ lw_all := lw_g (lw_at lw_m12 57 rfl) rfl
theorem q2813 : (Jvm.Cond.code ({ cls := "CircuitCellsModel", name := "play", desc := "()V" } : Jvm.MethodName) prog_22_method_51_code (5 : Nat) (Option.none : Option Jvm.ClassFile.FieldType)) ∈ lw_all := lw_g (lw_at lw_m12 58 rfl) rfl
theorem q2814 : (Jvm.Cond.methodLink "CircuitCellsModel" (331 : Nat) ({ cls := "CircuitCellsModel", name := "octetOf", desc := "(I)I" } : Jvm.MethodName)) ∈ lw_all := lw_g (lw_at lw_m12 59 rfl) rfl
theorem q2815 : (Jvm.Cond.privateMethod ({ cls := "CircuitCellsModel", name := "octetOf", desc := "(I)I" } : Jvm.MethodName)) ∈ lw_tbl := lw_at lw_m12 60 rfl
theorem q2816 : (Jvm.Cond.instanceMethod ({ cls := "CircuitCellsModel", name := "octetOf", desc := "(I)I" } : Jvm.MethodName)) ∈ lw_all := lw_g (lw_at lw_m12 61 rfl) rfl
theorem q2817 : (Jvm.Cond.code ({ cls := "CircuitCellsModel", name := "octetOf", desc := "(I)I" } : Jvm.MethodName) prog_22_method_48_code (2 : Nat) (Option.some Jvm.ClassFile.FieldType.int)) ∈ lw_all := lw_g (lw_at lw_m12 62 rfl) rfl
theorem q2818 : (Jvm.Cond.methodLink "CircuitCellsModel" (334 : Nat) ({ cls := "CircuitCellsModel", name := "filler", desc := "()I" } : Jvm.MethodName)) ∈ lw_all := lw_g (lw_at lw_m12 63 rfl) rfl
theorem q2819 : (Jvm.Cond.privateMethod ({ cls := "CircuitCellsModel", name := "filler", desc := "()I" } : Jvm.MethodName)) ∈ lw_tbl := lw_at lw_m12 64 rfl
theorem q2820 : (Jvm.Cond.instanceMethod ({ cls := "CircuitCellsModel", name := "filler", desc := "()I" } : Jvm.MethodName)) ∈ lw_all := lw_g (lw_at lw_m12 65 rfl) rfl
theorem q2821 : (Jvm.Cond.code ({ cls := "CircuitCellsModel", name := "filler", desc := "()I" } : Jvm.MethodName) prog_22_method_50_code (1 : Nat) (Option.some Jvm.ClassFile.FieldType.int)) ∈ lw_all := lw_g (lw_at lw_m12 66 rfl) rfl
theorem q2822 : (Jvm.Cond.methodLink "CircuitCellsModel" (328 : Nat) ({ cls := "CircuitCellsModel", name := "playedBack", desc := "(I)I" } : Jvm.MethodName)) ∈ lw_all := lw_g (lw_at lw_m12 67 rfl) rfl
theorem q2823 : (Jvm.Cond.privateMethod ({ cls := "CircuitCellsModel", name := "playedBack", desc := "(I)I" } : Jvm.MethodName)) ∈ lw_tbl := lw_at lw_m12 68 rfl
theorem q2824 : (Jvm.Cond.instanceMethod ({ cls := "CircuitCellsModel", name := "playedBack", desc := "(I)I" } : Jvm.MethodName)) ∈ lw_all := lw_g (lw_at lw_m12 69 rfl) rfl
theorem q2825 : (Jvm.Cond.code ({ cls := "CircuitCellsModel", name := "playedBack", desc := "(I)I" } : Jvm.MethodName) prog_22_method_49_code (2 : Nat) (Option.some Jvm.ClassFile.FieldType.int)) ∈ lw_all := lw_g (lw_at lw_m12 70 rfl) rfl
theorem q2827 : (Jvm.Cond.instanceMethod ({ cls := "CircuitCellsModel", name := "lose", desc := "(I)I" } : Jvm.MethodName)) ∈ lw_all := lw_g (lw_at lw_m12 72 rfl) rfl
theorem q2828 : (Jvm.Cond.selects "CircuitCellsModel" ({ cls := "CircuitCellsModel", name := "lose", desc := "(I)I" } : Jvm.MethodName) ({ cls := "CircuitCellsModel", name := "lose", desc := "(I)I" } : Jvm.MethodName)) ∈ lw_all := lw_g (lw_at lw_m12 73 rfl) rfl
theorem q2829 : (Jvm.Cond.code ({ cls := "CircuitCellsModel", name := "lose", desc := "(I)I" } : Jvm.MethodName) prog_22_method_72_code (2 : Nat) (Option.some Jvm.ClassFile.FieldType.int)) ∈ lw_all := lw_g (lw_at lw_m12 74 rfl) rfl
theorem q2830 : (Jvm.Cond.methodLink "CircuitCellsModel" (390 : Nat) ({ cls := "CircuitCellsModel", name := "turnTo", desc := "(IIIII)I" } : Jvm.MethodName)) ∈ lw_all := lw_g (lw_at lw_m12 75 rfl) rfl
theorem q2831 : (Jvm.Cond.privateMethod ({ cls := "CircuitCellsModel", name := "turnTo", desc := "(IIIII)I" } : Jvm.MethodName)) ∈ lw_tbl := lw_at lw_m12 76 rfl
theorem q2832 : (Jvm.Cond.instanceMethod ({ cls := "CircuitCellsModel", name := "turnTo", desc := "(IIIII)I" } : Jvm.MethodName)) ∈ lw_all := lw_g (lw_at lw_m12 77 rfl) rfl
theorem q2833 : (Jvm.Cond.code ({ cls := "CircuitCellsModel", name := "turnTo", desc := "(IIIII)I" } : Jvm.MethodName) prog_22_method_71_code (7 : Nat) (Option.some Jvm.ClassFile.FieldType.int)) ∈ lw_all := lw_g (lw_at lw_m12 78 rfl) rfl
theorem q2835 : (Jvm.Cond.instanceMethod ({ cls := "CircuitCellsModel", name := "stall", desc := "(I)I" } : Jvm.MethodName)) ∈ lw_all := lw_g (lw_at lw_m12 80 rfl) rfl
theorem q2836 : (Jvm.Cond.selects "CircuitCellsModel" ({ cls := "CircuitCellsModel", name := "stall", desc := "(I)I" } : Jvm.MethodName) ({ cls := "CircuitCellsModel", name := "stall", desc := "(I)I" } : Jvm.MethodName)) ∈ lw_all := lw_g (lw_at lw_m12 81 rfl) rfl
theorem q2837 : (Jvm.Cond.code ({ cls := "CircuitCellsModel", name := "stall", desc := "(I)I" } : Jvm.MethodName) prog_22_method_73_code (2 : Nat) (Option.some Jvm.ClassFile.FieldType.int)) ∈ lw_all := lw_g (lw_at lw_m12 82 rfl) rfl
theorem q2839 : (Jvm.Cond.instanceMethod ({ cls := "CircuitCellsModel", name := "turn", desc := "(II)I" } : Jvm.MethodName)) ∈ lw_all := lw_g (lw_at lw_m12 84 rfl) rfl
theorem q2840 : (Jvm.Cond.selects "CircuitCellsModel" ({ cls := "CircuitCellsModel", name := "turn", desc := "(II)I" } : Jvm.MethodName) ({ cls := "CircuitCellsModel", name := "turn", desc := "(II)I" } : Jvm.MethodName)) ∈ lw_all := lw_g (lw_at lw_m12 85 rfl) rfl
theorem q2841 : (Jvm.Cond.code ({ cls := "CircuitCellsModel", name := "turn", desc := "(II)I" } : Jvm.MethodName) prog_22_method_74_code (3 : Nat) (Option.some Jvm.ClassFile.FieldType.int)) ∈ lw_all := lw_g (lw_at lw_m12 86 rfl) rfl
theorem q2843 : (Jvm.Cond.instanceMethod ({ cls := "CircuitCellsModel", name := "undo", desc := "()I" } : Jvm.MethodName)) ∈ lw_all := lw_g (lw_at lw_m12 88 rfl) rfl
theorem q2844 : (Jvm.Cond.selects "CircuitCellsModel" ({ cls := "CircuitCellsModel", name := "undo", desc := "()I" } : Jvm.MethodName) ({ cls := "CircuitCellsModel", name := "undo", desc := "()I" } : Jvm.MethodName)) ∈ lw_all := lw_g (lw_at lw_m12 89 rfl) rfl
theorem q2845 : (Jvm.Cond.code ({ cls := "CircuitCellsModel", name := "undo", desc := "()I" } : Jvm.MethodName) prog_22_method_75_code (2 : Nat) (Option.some Jvm.ClassFile.FieldType.int)) ∈ lw_all := lw_g (lw_at lw_m12 90 rfl) rfl
theorem q2847 : (Jvm.Cond.instanceMethod ({ cls := "CircuitCellsModel", name := "then", desc := "(II)I" } : Jvm.MethodName)) ∈ lw_all := lw_g (lw_at lw_m12 92 rfl) rfl
theorem q2848 : (Jvm.Cond.selects "CircuitCellsModel" ({ cls := "CircuitCellsModel", name := "then", desc := "(II)I" } : Jvm.MethodName) ({ cls := "CircuitCellsModel", name := "then", desc := "(II)I" } : Jvm.MethodName)) ∈ lw_all := lw_g (lw_at lw_m12 93 rfl) rfl
theorem q2849 : (Jvm.Cond.code ({ cls := "CircuitCellsModel", name := "then", desc := "(II)I" } : Jvm.MethodName) prog_22_method_78_code (3 : Nat) (Option.some Jvm.ClassFile.FieldType.int)) ∈ lw_all := lw_g (lw_at lw_m12 94 rfl) rfl
theorem q2850 : (Jvm.Cond.constantLong "CircuitCellsModel" (398 : Nat) (5 : Int64)) ∈ lw_all := lw_g (lw_at lw_m12 95 rfl) rfl
theorem q2851 : (Jvm.Cond.constantLong "CircuitCellsModel" (400 : Nat) (400 : Int64)) ∈ lw_all := lw_g (lw_at lw_m12 96 rfl) rfl
theorem q2852 : (Jvm.Cond.methodLink "CircuitCellsModel" (402 : Nat) ({ cls := "CircuitCellsModel", name := "rememberNow", desc := "()V" } : Jvm.MethodName)) ∈ lw_all := lw_g (lw_at lw_m12 97 rfl) rfl
theorem q2853 : (Jvm.Cond.privateMethod ({ cls := "CircuitCellsModel", name := "rememberNow", desc := "()V" } : Jvm.MethodName)) ∈ lw_tbl := lw_at lw_m12 98 rfl
theorem q2854 : (Jvm.Cond.instanceMethod ({ cls := "CircuitCellsModel", name := "rememberNow", desc := "()V" } : Jvm.MethodName)) ∈ lw_all := lw_g (lw_at lw_m12 99 rfl) rfl
theorem q2855 : (Jvm.Cond.code ({ cls := "CircuitCellsModel", name := "rememberNow", desc := "()V" } : Jvm.MethodName) prog_22_method_76_code (1 : Nat) (Option.none : Option Jvm.ClassFile.FieldType)) ∈ lw_all := lw_g (lw_at lw_m12 100 rfl) rfl
theorem q2856 : (Jvm.Cond.methodLink "CircuitCellsModel" (394 : Nat) ({ cls := "CircuitCellsModel", name := "copyTo", desc := "([I[I)V" } : Jvm.MethodName)) ∈ lw_all := lw_g (lw_at lw_m12 101 rfl) rfl
theorem q2857 : (Jvm.Cond.static ({ cls := "CircuitCellsModel", name := "copyTo", desc := "([I[I)V" } : Jvm.MethodName)) ∈ lw_all := lw_g (lw_at lw_m12 102 rfl) rfl
theorem q2858 : (Jvm.Cond.code ({ cls := "CircuitCellsModel", name := "copyTo", desc := "([I[I)V" } : Jvm.MethodName) prog_22_method_68_code (3 : Nat) (Option.none : Option Jvm.ClassFile.FieldType)) ∈ lw_all := lw_g (lw_at lw_m12 103 rfl) rfl
theorem q2859 : (Jvm.Cond.methodLink "CircuitCellsModel" (405 : Nat) ({ cls := "CircuitCellsModel", name := "back", desc := "(I)I" } : Jvm.MethodName)) ∈ lw_all := lw_g (lw_at lw_m12 104 rfl) rfl
theorem q2860 : (Jvm.Cond.privateMethod ({ cls := "CircuitCellsModel", name := "back", desc := "(I)I" } : Jvm.MethodName)) ∈ lw_tbl := lw_at lw_m12 105 rfl
theorem q2861 : (Jvm.Cond.instanceMethod ({ cls := "CircuitCellsModel", name := "back", desc := "(I)I" } : Jvm.MethodName)) ∈ lw_all := lw_g (lw_at lw_m12 106 rfl) rfl
theorem q2862 : (Jvm.Cond.code ({ cls := "CircuitCellsModel", name := "back", desc := "(I)I" } : Jvm.MethodName) prog_22_method_77_code (2 : Nat) (Option.some Jvm.ClassFile.FieldType.int)) ∈ lw_all := lw_g (lw_at lw_m12 107 rfl) rfl
theorem q2864 : (Jvm.Cond.instanceMethod ({ cls := "CircuitCellsModel", name := "when", desc := "(I)I" } : Jvm.MethodName)) ∈ lw_all := lw_g (lw_at lw_m12 109 rfl) rfl
theorem q2865 : (Jvm.Cond.selects "CircuitCellsModel" ({ cls := "CircuitCellsModel", name := "when", desc := "(I)I" } : Jvm.MethodName) ({ cls := "CircuitCellsModel", name := "when", desc := "(I)I" } : Jvm.MethodName)) ∈ lw_all := lw_g (lw_at lw_m12 110 rfl) rfl
theorem q2866 : (Jvm.Cond.code ({ cls := "CircuitCellsModel", name := "when", desc := "(I)I" } : Jvm.MethodName) prog_22_method_80_code (3 : Nat) (Option.some Jvm.ClassFile.FieldType.int)) ∈ lw_all := lw_g (lw_at lw_m12 111 rfl) rfl
theorem q2867 : (Jvm.Cond.constantLong "CircuitCellsModel" (408 : Nat) (3 : Int64)) ∈ lw_all := lw_g (lw_at lw_m12 112 rfl) rfl
theorem q2868 : (Jvm.Cond.methodLink "CircuitCellsModel" (410 : Nat) ({ cls := "CircuitCellsModel", name := "isOnce", desc := "(I)Z" } : Jvm.MethodName)) ∈ lw_all := lw_g (lw_at lw_m12 113 rfl) rfl
theorem q2869 : (Jvm.Cond.privateMethod ({ cls := "CircuitCellsModel", name := "isOnce", desc := "(I)Z" } : Jvm.MethodName)) ∈ lw_tbl := lw_at lw_m12 114 rfl
theorem q2870 : (Jvm.Cond.instanceMethod ({ cls := "CircuitCellsModel", name := "isOnce", desc := "(I)Z" } : Jvm.MethodName)) ∈ lw_all := lw_g (lw_at lw_m12 115 rfl) rfl
theorem q2871 : (Jvm.Cond.code ({ cls := "CircuitCellsModel", name := "isOnce", desc := "(I)Z" } : Jvm.MethodName) prog_22_method_79_code (2 : Nat) (Option.some Jvm.ClassFile.FieldType.boolean)) ∈ lw_all := lw_g (lw_at lw_m12 116 rfl) rfl
theorem q2873 : (Jvm.Cond.instanceMethod ({ cls := "CircuitCellsModel", name := "settles", desc := "()I" } : Jvm.MethodName)) ∈ lw_all := lw_g (lw_at lw_m12 118 rfl) rfl
theorem q2874 : (Jvm.Cond.selects "CircuitCellsModel" ({ cls := "CircuitCellsModel", name := "settles", desc := "()I" } : Jvm.MethodName) ({ cls := "CircuitCellsModel", name := "settles", desc := "()I" } : Jvm.MethodName)) ∈ lw_all := lw_g (lw_at lw_m12 119 rfl) rfl
theorem q2875 : (Jvm.Cond.code ({ cls := "CircuitCellsModel", name := "settles", desc := "()I" } : Jvm.MethodName) prog_22_method_82_code (3 : Nat) (Option.some Jvm.ClassFile.FieldType.int)) ∈ lw_all := lw_g (lw_at lw_m12 120 rfl) rfl
theorem q2876 : (Jvm.Cond.methodLink "CircuitCellsModel" (416 : Nat) ({ cls := "CircuitCellsModel", name := "isNear", desc := "()Z" } : Jvm.MethodName)) ∈ lw_all := lw_g (lw_at lw_m12 121 rfl) rfl
theorem q2877 : (Jvm.Cond.privateMethod ({ cls := "CircuitCellsModel", name := "isNear", desc := "()Z" } : Jvm.MethodName)) ∈ lw_tbl := lw_at lw_m12 122 rfl
theorem q2878 : (Jvm.Cond.instanceMethod ({ cls := "CircuitCellsModel", name := "isNear", desc := "()Z" } : Jvm.MethodName)) ∈ lw_all := lw_g (lw_at lw_m12 123 rfl) rfl
theorem q2879 : (Jvm.Cond.code ({ cls := "CircuitCellsModel", name := "isNear", desc := "()Z" } : Jvm.MethodName) prog_22_method_81_code (1 : Nat) (Option.some Jvm.ClassFile.FieldType.boolean)) ∈ lw_all := lw_g (lw_at lw_m12 124 rfl) rfl
theorem q2880 : (Jvm.Cond.methodLink "CircuitCellsModel" (413 : Nat) ({ cls := "java/lang/Math", name := "abs", desc := "(I)I" } : Jvm.MethodName)) ∈ lw_all := lw_g (lw_at lw_m12 125 rfl) rfl
theorem q2882 : (Jvm.Cond.instanceMethod ({ cls := "CircuitCellsModel", name := "toAim", desc := "(II)I" } : Jvm.MethodName)) ∈ lw_all := lw_g (lw_at lw_m12 127 rfl) rfl
theorem q2883 : (Jvm.Cond.selects "CircuitCellsModel" ({ cls := "CircuitCellsModel", name := "toAim", desc := "(II)I" } : Jvm.MethodName) ({ cls := "CircuitCellsModel", name := "toAim", desc := "(II)I" } : Jvm.MethodName)) ∈ lw_all := lw_g (lw_at lw_m12 128 rfl) rfl
theorem q2884 : (Jvm.Cond.code ({ cls := "CircuitCellsModel", name := "toAim", desc := "(II)I" } : Jvm.MethodName) prog_22_method_84_code (5 : Nat) (Option.some Jvm.ClassFile.FieldType.int)) ∈ lw_all := lw_g (lw_at lw_m12 129 rfl) rfl
theorem q2885 : (Jvm.Cond.methodLink "CircuitCellsModel" (425 : Nat) ({ cls := "CircuitCellsModel", name := "tryBest", desc := "(II)V" } : Jvm.MethodName)) ∈ lw_all := lw_g (lw_at lw_m12 130 rfl) rfl
theorem q2886 : (Jvm.Cond.privateMethod ({ cls := "CircuitCellsModel", name := "tryBest", desc := "(II)V" } : Jvm.MethodName)) ∈ lw_tbl := lw_at lw_m12 131 rfl
theorem q2887 : (Jvm.Cond.instanceMethod ({ cls := "CircuitCellsModel", name := "tryBest", desc := "(II)V" } : Jvm.MethodName)) ∈ lw_all := lw_g (lw_at lw_m12 132 rfl) rfl
theorem q2888 : (Jvm.Cond.code ({ cls := "CircuitCellsModel", name := "tryBest", desc := "(II)V" } : Jvm.MethodName) prog_22_method_83_code (3 : Nat) (Option.none : Option Jvm.ClassFile.FieldType)) ∈ lw_all := lw_g (lw_at lw_m12 133 rfl) rfl
theorem q2890 : (Jvm.Cond.instanceMethod ({ cls := "CircuitCellsModel", name := "toGain", desc := "(II)I" } : Jvm.MethodName)) ∈ lw_all := lw_g (lw_at lw_m12 135 rfl) rfl
theorem q2891 : (Jvm.Cond.selects "CircuitCellsModel" ({ cls := "CircuitCellsModel", name := "toGain", desc := "(II)I" } : Jvm.MethodName) ({ cls := "CircuitCellsModel", name := "toGain", desc := "(II)I" } : Jvm.MethodName)) ∈ lw_all := lw_g (lw_at lw_m12 136 rfl) rfl
theorem q2892 : (Jvm.Cond.code ({ cls := "CircuitCellsModel", name := "toGain", desc := "(II)I" } : Jvm.MethodName) prog_22_method_86_code (5 : Nat) (Option.some Jvm.ClassFile.FieldType.int)) ∈ lw_all := lw_g (lw_at lw_m12 137 rfl) rfl
theorem q2893 : (Jvm.Cond.methodLink "CircuitCellsModel" (428 : Nat) ({ cls := "CircuitCellsModel", name := "farOff", desc := "(I)I" } : Jvm.MethodName)) ∈ lw_all := lw_g (lw_at lw_m12 138 rfl) rfl
theorem q2894 : (Jvm.Cond.privateMethod ({ cls := "CircuitCellsModel", name := "farOff", desc := "(I)I" } : Jvm.MethodName)) ∈ lw_tbl := lw_at lw_m12 139 rfl
theorem q2895 : (Jvm.Cond.instanceMethod ({ cls := "CircuitCellsModel", name := "farOff", desc := "(I)I" } : Jvm.MethodName)) ∈ lw_all := lw_g (lw_at lw_m12 140 rfl) rfl
theorem q2896 : (Jvm.Cond.code ({ cls := "CircuitCellsModel", name := "farOff", desc := "(I)I" } : Jvm.MethodName) prog_22_method_85_code (4 : Nat) (Option.some Jvm.ClassFile.FieldType.int)) ∈ lw_all := lw_g (lw_at lw_m12 141 rfl) rfl
theorem q2898 : (Jvm.Cond.instanceMethod ({ cls := "CircuitCellsModel", name := "note", desc := "(II)I" } : Jvm.MethodName)) ∈ lw_all := lw_g (lw_at lw_m12 143 rfl) rfl
theorem q2899 : (Jvm.Cond.selects "CircuitCellsModel" ({ cls := "CircuitCellsModel", name := "note", desc := "(II)I" } : Jvm.MethodName) ({ cls := "CircuitCellsModel", name := "note", desc := "(II)I" } : Jvm.MethodName)) ∈ lw_all := lw_g (lw_at lw_m12 144 rfl) rfl
theorem q2900 : (Jvm.Cond.code ({ cls := "CircuitCellsModel", name := "note", desc := "(II)I" } : Jvm.MethodName) prog_22_method_87_code (3 : Nat) (Option.some Jvm.ClassFile.FieldType.int)) ∈ lw_all := lw_g (lw_at lw_m12 145 rfl) rfl
theorem q2901 : (Jvm.Cond.constantLong "CircuitCellsModel" (431 : Nat) (60 : Int64)) ∈ lw_all := lw_g (lw_at lw_m12 146 rfl) rfl
theorem q2902 : (Jvm.Cond.constantLong "CircuitCellsModel" (433 : Nat) (999 : Int64)) ∈ lw_all := lw_g (lw_at lw_m12 147 rfl) rfl
theorem q2904 : (Jvm.Cond.instanceMethod ({ cls := "CircuitCellsModel", name := "other", desc := "(I)I" } : Jvm.MethodName)) ∈ lw_all := lw_g (lw_at lw_m12 149 rfl) rfl
theorem q2905 : (Jvm.Cond.selects "CircuitCellsModel" ({ cls := "CircuitCellsModel", name := "other", desc := "(I)I" } : Jvm.MethodName) ({ cls := "CircuitCellsModel", name := "other", desc := "(I)I" } : Jvm.MethodName)) ∈ lw_all := lw_g (lw_at lw_m12 150 rfl) rfl
theorem q2906 : (Jvm.Cond.code ({ cls := "CircuitCellsModel", name := "other", desc := "(I)I" } : Jvm.MethodName) prog_22_method_90_code (2 : Nat) (Option.some Jvm.ClassFile.FieldType.int)) ∈ lw_all := lw_g (lw_at lw_m12 151 rfl) rfl
theorem q2907 : (Jvm.Cond.methodLink "CircuitCellsModel" (438 : Nat) ({ cls := "CircuitCellsModel", name := "isAsNoted", desc := "(I)Z" } : Jvm.MethodName)) ∈ lw_all := lw_g (lw_at lw_m12 152 rfl) rfl
theorem q2908 : (Jvm.Cond.privateMethod ({ cls := "CircuitCellsModel", name := "isAsNoted", desc := "(I)Z" } : Jvm.MethodName)) ∈ lw_tbl := lw_at lw_m12 153 rfl
theorem q2909 : (Jvm.Cond.instanceMethod ({ cls := "CircuitCellsModel", name := "isAsNoted", desc := "(I)Z" } : Jvm.MethodName)) ∈ lw_all := lw_g (lw_at lw_m12 154 rfl) rfl
theorem q2910 : (Jvm.Cond.code ({ cls := "CircuitCellsModel", name := "isAsNoted", desc := "(I)Z" } : Jvm.MethodName) prog_22_method_88_code (6 : Nat) (Option.some Jvm.ClassFile.FieldType.boolean)) ∈ lw_all := lw_g (lw_at lw_m12 155 rfl) rfl
theorem q2911 : (Jvm.Cond.methodLink "CircuitCellsModel" (441 : Nat) ({ cls := "CircuitCellsModel", name := "tellFits", desc := "()V" } : Jvm.MethodName)) ∈ lw_all := lw_g (lw_at lw_m12 156 rfl) rfl
theorem q2912 : (Jvm.Cond.privateMethod ({ cls := "CircuitCellsModel", name := "tellFits", desc := "()V" } : Jvm.MethodName)) ∈ lw_tbl := lw_at lw_m12 157 rfl
theorem q2913 : (Jvm.Cond.instanceMethod ({ cls := "CircuitCellsModel", name := "tellFits", desc := "()V" } : Jvm.MethodName)) ∈ lw_all := lw_g (lw_at lw_m12 158 rfl) rfl
theorem q2914 : (Jvm.Cond.code ({ cls := "CircuitCellsModel", name := "tellFits", desc := "()V" } : Jvm.MethodName) prog_22_method_89_code (3 : Nat) (Option.none : Option Jvm.ClassFile.FieldType)) ∈ lw_all := lw_g (lw_at lw_m12 159 rfl) rfl
theorem q2916 : (Jvm.Cond.instanceMethod ({ cls := "CircuitCellsModel", name := "look", desc := "(I)I" } : Jvm.MethodName)) ∈ lw_all := lw_g (lw_at lw_m12 161 rfl) rfl
theorem q2917 : (Jvm.Cond.selects "CircuitCellsModel" ({ cls := "CircuitCellsModel", name := "look", desc := "(I)I" } : Jvm.MethodName) ({ cls := "CircuitCellsModel", name := "look", desc := "(I)I" } : Jvm.MethodName)) ∈ lw_all := lw_g (lw_at lw_m12 162 rfl) rfl
theorem q2918 : (Jvm.Cond.code ({ cls := "CircuitCellsModel", name := "look", desc := "(I)I" } : Jvm.MethodName) prog_22_method_92_code (6 : Nat) (Option.some Jvm.ClassFile.FieldType.int)) ∈ lw_all := lw_g (lw_at lw_m12 163 rfl) rfl
theorem q2919 : (Jvm.Cond.methodLink "CircuitCellsModel" (444 : Nat) ({ cls := "CircuitCellsModel", name := "unlikeAt", desc := "(I)I" } : Jvm.MethodName)) ∈ lw_all := lw_g (lw_at lw_m12 164 rfl) rfl
theorem q2920 : (Jvm.Cond.privateMethod ({ cls := "CircuitCellsModel", name := "unlikeAt", desc := "(I)I" } : Jvm.MethodName)) ∈ lw_tbl := lw_at lw_m12 165 rfl
theorem q2921 : (Jvm.Cond.instanceMethod ({ cls := "CircuitCellsModel", name := "unlikeAt", desc := "(I)I" } : Jvm.MethodName)) ∈ lw_all := lw_g (lw_at lw_m12 166 rfl) rfl
theorem q2922 : (Jvm.Cond.code ({ cls := "CircuitCellsModel", name := "unlikeAt", desc := "(I)I" } : Jvm.MethodName) prog_22_method_91_code (6 : Nat) (Option.some Jvm.ClassFile.FieldType.int)) ∈ lw_all := lw_g (lw_at lw_m12 167 rfl) rfl
theorem q2924 : (Jvm.Cond.instanceMethod ({ cls := "CircuitCellsModel", name := "forget", desc := "()V" } : Jvm.MethodName)) ∈ lw_all := lw_g (lw_at lw_m12 169 rfl) rfl
theorem q2925 : (Jvm.Cond.selects "CircuitCellsModel" ({ cls := "CircuitCellsModel", name := "forget", desc := "()V" } : Jvm.MethodName) ({ cls := "CircuitCellsModel", name := "forget", desc := "()V" } : Jvm.MethodName)) ∈ lw_all := lw_g (lw_at lw_m12 170 rfl) rfl
theorem q2926 : (Jvm.Cond.code ({ cls := "CircuitCellsModel", name := "forget", desc := "()V" } : Jvm.MethodName) prog_22_method_93_code (1 : Nat) (Option.none : Option Jvm.ClassFile.FieldType)) ∈ lw_all := lw_g (lw_at lw_m12 171 rfl) rfl
theorem q2928 : (Jvm.Cond.instanceMethod ({ cls := "CircuitCellsModel", name := "storms", desc := "(II)I" } : Jvm.MethodName)) ∈ lw_all := lw_g (lw_at lw_m12 173 rfl) rfl
theorem q2929 : (Jvm.Cond.selects "CircuitCellsModel" ({ cls := "CircuitCellsModel", name := "storms", desc := "(II)I" } : Jvm.MethodName) ({ cls := "CircuitCellsModel", name := "storms", desc := "(II)I" } : Jvm.MethodName)) ∈ lw_all := lw_g (lw_at lw_m12 174 rfl) rfl
theorem q2930 : (Jvm.Cond.code ({ cls := "CircuitCellsModel", name := "storms", desc := "(II)I" } : Jvm.MethodName) prog_22_method_94_code (7 : Nat) (Option.some Jvm.ClassFile.FieldType.int)) ∈ lw_all := lw_g (lw_at lw_m12 175 rfl) rfl
theorem q2931 : (Jvm.Cond.constantLong "CircuitCellsModel" (447 : Nat) (10 : Int64)) ∈ lw_all := lw_g (lw_at lw_m12 176 rfl) rfl
theorem q2933 : (Jvm.Cond.instanceMethod ({ cls := "CircuitCellsModel", name := "years", desc := "(III)I" } : Jvm.MethodName)) ∈ lw_all := lw_g (lw_at lw_m12 178 rfl) rfl
theorem q2934 : (Jvm.Cond.selects "CircuitCellsModel" ({ cls := "CircuitCellsModel", name := "years", desc := "(III)I" } : Jvm.MethodName) ({ cls := "CircuitCellsModel", name := "years", desc := "(III)I" } : Jvm.MethodName)) ∈ lw_all := lw_g (lw_at lw_m12 179 rfl) rfl
theorem q2935 : (Jvm.Cond.code ({ cls := "CircuitCellsModel", name := "years", desc := "(III)I" } : Jvm.MethodName) prog_22_method_96_code (7 : Nat) (Option.some Jvm.ClassFile.FieldType.int)) ∈ lw_all := lw_g (lw_at lw_m12 180 rfl) rfl
theorem q2936 : (Jvm.Cond.methodLink "CircuitCellsModel" (453 : Nat) ({ cls := "CircuitCellsModel", name := "drawOf", desc := "(I)I" } : Jvm.MethodName)) ∈ lw_all := lw_g (lw_at lw_m12 181 rfl) rfl
theorem q2937 : (Jvm.Cond.privateMethod ({ cls := "CircuitCellsModel", name := "drawOf", desc := "(I)I" } : Jvm.MethodName)) ∈ lw_tbl := lw_at lw_m12 182 rfl
theorem q2938 : (Jvm.Cond.instanceMethod ({ cls := "CircuitCellsModel", name := "drawOf", desc := "(I)I" } : Jvm.MethodName)) ∈ lw_all := lw_g (lw_at lw_m12 183 rfl) rfl
theorem q2939 : (Jvm.Cond.code ({ cls := "CircuitCellsModel", name := "drawOf", desc := "(I)I" } : Jvm.MethodName) prog_22_method_95_code (2 : Nat) (Option.some Jvm.ClassFile.FieldType.int)) ∈ lw_all := lw_g (lw_at lw_m12 184 rfl) rfl
theorem q2940 : (Jvm.Cond.constant "CircuitCellsModel" (452 : Nat) (1103515245 : Int32)) ∈ lw_all := lw_g (lw_at lw_m12 185 rfl) rfl
theorem q2942 : (Jvm.Cond.instanceMethod ({ cls := "CircuitCellsModel", name := "image", desc := "()V" } : Jvm.MethodName)) ∈ lw_all := lw_g (lw_at lw_m12 187 rfl) rfl
theorem q2943 : (Jvm.Cond.selects "CircuitCellsModel" ({ cls := "CircuitCellsModel", name := "image", desc := "()V" } : Jvm.MethodName) ({ cls := "CircuitCellsModel", name := "image", desc := "()V" } : Jvm.MethodName)) ∈ lw_all := lw_g (lw_at lw_m12 188 rfl) rfl
theorem q2944 : (Jvm.Cond.code ({ cls := "CircuitCellsModel", name := "image", desc := "()V" } : Jvm.MethodName) prog_22_method_97_code (1 : Nat) (Option.none : Option Jvm.ClassFile.FieldType)) ∈ lw_all := lw_g (lw_at lw_m12 189 rfl) rfl
theorem q2946 : (Jvm.Cond.instanceMethod ({ cls := "CircuitCellsModel", name := "restore", desc := "()Z" } : Jvm.MethodName)) ∈ lw_all := lw_g (lw_at lw_m12 191 rfl) rfl
theorem q2947 : (Jvm.Cond.selects "CircuitCellsModel" ({ cls := "CircuitCellsModel", name := "restore", desc := "()Z" } : Jvm.MethodName) ({ cls := "CircuitCellsModel", name := "restore", desc := "()Z" } : Jvm.MethodName)) ∈ lw_all := lw_g (lw_at lw_m12 192 rfl) rfl
theorem q2948 : (Jvm.Cond.code ({ cls := "CircuitCellsModel", name := "restore", desc := "()Z" } : Jvm.MethodName) prog_22_method_98_code (1 : Nat) (Option.some Jvm.ClassFile.FieldType.boolean)) ∈ lw_all := lw_g (lw_at lw_m12 193 rfl) rfl
theorem q2979 : (Jvm.Cond.castable "CircuitCellsModel" "java/lang/Object") ∈ lw_tbl := lw_at lw_m12 224 rfl

/-! java/lang/Math -/
set_option maxRecDepth 100000
def RJ12 : String := "java/lang/Math"
abbrev cJ12_max : ByteArray := prog_37_method_65_code
def yJ12_max : MethodName := ⟨RJ12, "max", "(II)I"⟩
def dkwJ12_max_0 : List UInt8 := [26, 27, 161, 0, 7, 26, 167, 0, 4, 27, 172]
abbrev dktJ12_max_0 : List UInt8 := dkwJ12_max_0 ++ []
theorem dksJ12_max_0 : cJ12_max.data.toList.drop 0 = dktJ12_max_0 := by decide +kernel
theorem dJ12_max_0 : decode cJ12_max 0 = .ok (.iload_n 0, 1) := dk_26 (dk_at dksJ12_max_0 0 rfl rfl)
theorem dJ12_max_1 : decode cJ12_max 1 = .ok (.iload_n 1, 1) := dk_27 (dk_at dksJ12_max_0 1 rfl rfl)
theorem dJ12_max_2 : decode cJ12_max 2 = .ok (.if_icmp .lt 7, 3) := dk_161 0 7 (dk_at dksJ12_max_0 2 rfl rfl)
theorem dJ12_max_5 : decode cJ12_max 5 = .ok (.iload_n 0, 1) := dk_26 (dk_at dksJ12_max_0 5 rfl rfl)
theorem dJ12_max_6 : decode cJ12_max 6 = .ok (.goto 4, 3) := dk_167 0 4 (dk_at dksJ12_max_0 6 rfl rfl)
theorem dJ12_max_9 : decode cJ12_max 9 = .ok (.iload_n 1, 1) := dk_27 (dk_at dksJ12_max_0 9 rfl rfl)
theorem dJ12_max_10 : decode cJ12_max 10 = .ok (.ireturn, 1) := dk_172 (dk_at dksJ12_max_0 10 rfl rfl)
abbrev cJ12_min : ByteArray := prog_37_method_69_code
def yJ12_min : MethodName := ⟨RJ12, "min", "(II)I"⟩
def dkwJ12_min_0 : List UInt8 := [26, 27, 163, 0, 7, 26, 167, 0, 4, 27, 172]
abbrev dktJ12_min_0 : List UInt8 := dkwJ12_min_0 ++ []
theorem dksJ12_min_0 : cJ12_min.data.toList.drop 0 = dktJ12_min_0 := by decide +kernel
theorem dJ12_min_0 : decode cJ12_min 0 = .ok (.iload_n 0, 1) := dk_26 (dk_at dksJ12_min_0 0 rfl rfl)
theorem dJ12_min_1 : decode cJ12_min 1 = .ok (.iload_n 1, 1) := dk_27 (dk_at dksJ12_min_0 1 rfl rfl)
theorem dJ12_min_2 : decode cJ12_min 2 = .ok (.if_icmp .gt 7, 3) := dk_163 0 7 (dk_at dksJ12_min_0 2 rfl rfl)
theorem dJ12_min_5 : decode cJ12_min 5 = .ok (.iload_n 0, 1) := dk_26 (dk_at dksJ12_min_0 5 rfl rfl)
theorem dJ12_min_6 : decode cJ12_min 6 = .ok (.goto 4, 3) := dk_167 0 4 (dk_at dksJ12_min_0 6 rfl rfl)
theorem dJ12_min_9 : decode cJ12_min 9 = .ok (.iload_n 1, 1) := dk_27 (dk_at dksJ12_min_0 9 rfl rfl)
theorem dJ12_min_10 : decode cJ12_min 10 = .ok (.ireturn, 1) := dk_172 (dk_at dksJ12_min_0 10 rfl rfl)
abbrev cJ12_abs : ByteArray := prog_37_method_59_code
def yJ12_abs : MethodName := ⟨RJ12, "abs", "(I)I"⟩
def dkwJ12_abs_0 : List UInt8 := [26, 156, 0, 8, 26, 116, 167, 0, 4, 26, 172]
abbrev dktJ12_abs_0 : List UInt8 := dkwJ12_abs_0 ++ []
theorem dksJ12_abs_0 : cJ12_abs.data.toList.drop 0 = dktJ12_abs_0 := by decide +kernel
theorem dJ12_abs_0 : decode cJ12_abs 0 = .ok (.iload_n 0, 1) := dk_26 (dk_at dksJ12_abs_0 0 rfl rfl)
theorem dJ12_abs_1 : decode cJ12_abs 1 = .ok (.ifCond .ge 8, 3) := dk_156 0 8 (dk_at dksJ12_abs_0 1 rfl rfl)
theorem dJ12_abs_4 : decode cJ12_abs 4 = .ok (.iload_n 0, 1) := dk_26 (dk_at dksJ12_abs_0 4 rfl rfl)
theorem dJ12_abs_5 : decode cJ12_abs 5 = .ok (.ineg, 1) := dk_116 (dk_at dksJ12_abs_0 5 rfl rfl)
theorem dJ12_abs_6 : decode cJ12_abs 6 = .ok (.goto 4, 3) := dk_167 0 4 (dk_at dksJ12_abs_0 6 rfl rfl)
theorem dJ12_abs_9 : decode cJ12_abs 9 = .ok (.iload_n 0, 1) := dk_26 (dk_at dksJ12_abs_0 9 rfl rfl)
theorem dJ12_abs_10 : decode cJ12_abs 10 = .ok (.ireturn, 1) := dk_172 (dk_at dksJ12_abs_0 10 rfl rfl)
theorem q130 : (Jvm.Cond.initialized "java/lang/Math") ∈ lw_all := lw_g (lw_at lw_m1 15 rfl) rfl
theorem q299 : (Jvm.Cond.static ({ cls := "java/lang/Math", name := "max", desc := "(II)I" } : Jvm.MethodName)) ∈ lw_all := lw_g (lw_at lw_m1 184 rfl) rfl
theorem q300 : (Jvm.Cond.code ({ cls := "java/lang/Math", name := "max", desc := "(II)I" } : Jvm.MethodName) prog_37_method_65_code (2 : Nat) (Option.some Jvm.ClassFile.FieldType.int)) ∈ lw_all := lw_g (lw_at lw_m1 185 rfl) rfl
theorem q317 : (Jvm.Cond.static ({ cls := "java/lang/Math", name := "min", desc := "(II)I" } : Jvm.MethodName)) ∈ lw_all := lw_g (lw_at lw_m1 202 rfl) rfl
theorem q318 : (Jvm.Cond.code ({ cls := "java/lang/Math", name := "min", desc := "(II)I" } : Jvm.MethodName) prog_37_method_69_code (2 : Nat) (Option.some Jvm.ClassFile.FieldType.int)) ∈ lw_all := lw_g (lw_at lw_m1 203 rfl) rfl
theorem q1328 : (Jvm.Cond.static ({ cls := "java/lang/Math", name := "abs", desc := "(I)I" } : Jvm.MethodName)) ∈ lw_all := lw_g (lw_at lw_m6 13 rfl) rfl
theorem q1329 : (Jvm.Cond.code ({ cls := "java/lang/Math", name := "abs", desc := "(I)I" } : Jvm.MethodName) prog_37_method_59_code (1 : Nat) (Option.some Jvm.ClassFile.FieldType.int)) ∈ lw_all := lw_g (lw_at lw_m6 14 rfl) rfl

