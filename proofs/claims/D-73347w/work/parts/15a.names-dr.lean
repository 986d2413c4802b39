set_option maxRecDepth 100000
abbrev cX11_init : ByteArray := prog_13_method_1_code
def yX11_init : MethodName := ⟨RX11, "<init>", "([BI)V"⟩
def dkwX11_init_1 : List UInt8 := [181, 0, 24, 42, 28, 181, 0, 28, 42, 182, 0, 32, 177]
abbrev dktX11_init_1 : List UInt8 := dkwX11_init_1 ++ []
def dkwX11_init_0 : List UInt8 := [42, 183, 0, 3, 42, 18, 9, 181, 0, 11, 42, 187, 0, 17, 89, 183, 0, 19, 181, 0, 20, 42, 43]
abbrev dktX11_init_0 : List UInt8 := dkwX11_init_0 ++ dktX11_init_1
theorem dksX11_init_0 : cX11_init.data.toList.drop 0 = dktX11_init_0 := by decide +kernel
theorem dksX11_init_1 : cX11_init.data.toList.drop 23 = dktX11_init_1 := dk_seg dksX11_init_0 23 rfl rfl
theorem dX11_init_0 : decode cX11_init 0 = .ok (.aload_n 0, 1) := dk_42 (dk_at dksX11_init_0 0 rfl rfl)
theorem dX11_init_1 : decode cX11_init 1 = .ok (.invokespecial 3, 3) := dk_183 0 3 (dk_at dksX11_init_0 1 rfl rfl)
theorem dX11_init_4 : decode cX11_init 4 = .ok (.aload_n 0, 1) := dk_42 (dk_at dksX11_init_0 4 rfl rfl)
theorem dX11_init_5 : decode cX11_init 5 = .ok (.ldc 9, 2) := dk_18 9 (dk_at dksX11_init_0 5 rfl rfl)
theorem dX11_init_7 : decode cX11_init 7 = .ok (.putfield 11, 3) := dk_181 0 11 (dk_at dksX11_init_0 7 rfl rfl)
theorem dX11_init_10 : decode cX11_init 10 = .ok (.aload_n 0, 1) := dk_42 (dk_at dksX11_init_0 10 rfl rfl)
theorem dX11_init_11 : decode cX11_init 11 = .ok (.new 17, 3) := dk_187 0 17 (dk_at dksX11_init_0 11 rfl rfl)
theorem dX11_init_14 : decode cX11_init 14 = .ok (.dup, 1) := dk_89 (dk_at dksX11_init_0 14 rfl rfl)
theorem dX11_init_15 : decode cX11_init 15 = .ok (.invokespecial 19, 3) := dk_183 0 19 (dk_at dksX11_init_0 15 rfl rfl)
theorem dX11_init_18 : decode cX11_init 18 = .ok (.putfield 20, 3) := dk_181 0 20 (dk_at dksX11_init_0 18 rfl rfl)
theorem dX11_init_21 : decode cX11_init 21 = .ok (.aload_n 0, 1) := dk_42 (dk_at dksX11_init_0 21 rfl rfl)
theorem dX11_init_22 : decode cX11_init 22 = .ok (.aload_n 1, 1) := dk_43 (dk_at dksX11_init_0 22 rfl rfl)
theorem dX11_init_23 : decode cX11_init 23 = .ok (.putfield 24, 3) := dk_181 0 24 (dk_at dksX11_init_1 0 rfl rfl)
theorem dX11_init_26 : decode cX11_init 26 = .ok (.aload_n 0, 1) := dk_42 (dk_at dksX11_init_1 3 rfl rfl)
theorem dX11_init_27 : decode cX11_init 27 = .ok (.iload_n 2, 1) := dk_28 (dk_at dksX11_init_1 4 rfl rfl)
theorem dX11_init_28 : decode cX11_init 28 = .ok (.putfield 28, 3) := dk_181 0 28 (dk_at dksX11_init_1 5 rfl rfl)
theorem dX11_init_31 : decode cX11_init 31 = .ok (.aload_n 0, 1) := dk_42 (dk_at dksX11_init_1 8 rfl rfl)
theorem dX11_init_32 : decode cX11_init 32 = .ok (.invokevirtual 32, 3) := dk_182 0 32 (dk_at dksX11_init_1 9 rfl rfl)
theorem dX11_init_35 : decode cX11_init 35 = .ok (.return_, 1) := dk_177 (dk_at dksX11_init_1 12 rfl rfl)
abbrev cX11_go : ByteArray := prog_13_method_6_code
def yX11_go : MethodName := ⟨RX11, "go", "()V"⟩
def dkwX11_go_14 : List UInt8 := [146, 184, 0, 100, 181, 0, 11, 42, 89, 180, 0, 35, 4, 96, 181, 0, 35, 177]
abbrev dktX11_go_14 : List UInt8 := dkwX11_go_14 ++ []
def dkwX11_go_13 : List UInt8 := [178, 0, 94, 167, 0, 6, 178, 0, 97, 181, 0, 55, 42, 180, 0, 55, 178, 0, 94, 166, 0, 12, 42, 27]
abbrev dktX11_go_13 : List UInt8 := dkwX11_go_13 ++ dktX11_go_14
def dkwX11_go_12 : List UInt8 := [3, 181, 0, 45, 42, 178, 0, 88, 181, 0, 55, 167, 0, 52, 42, 27, 184, 0, 91, 153, 0, 9]
abbrev dktX11_go_12 : List UInt8 := dkwX11_go_12 ++ dktX11_go_13
def dkwX11_go_11 : List UInt8 := [181, 0, 35, 167, 255, 196, 42, 42, 180, 0, 35, 42, 180, 0, 42, 100, 7, 164, 0, 7, 4, 167, 0, 4]
abbrev dktX11_go_11 : List UInt8 := dkwX11_go_11 ++ dktX11_go_12
def dkwX11_go_10 : List UInt8 := [42, 42, 180, 0, 35, 182, 0, 38, 96, 16, 48, 100, 181, 0, 85, 42, 89, 180, 0, 35, 4, 96]
abbrev dktX11_go_10 : List UInt8 := dkwX11_go_10 ++ dktX11_go_11
def dkwX11_go_9 : List UInt8 := [153, 0, 52, 42, 180, 0, 35, 42, 180, 0, 42, 100, 7, 162, 0, 26, 42, 16, 10, 42, 180, 0, 85, 104]
abbrev dktX11_go_9 : List UInt8 := dkwX11_go_9 ++ dktX11_go_10
def dkwX11_go_8 : List UInt8 := [184, 0, 82, 153, 0, 103, 42, 3, 181, 0, 85, 42, 42, 180, 0, 35, 182, 0, 38, 184, 0, 82]
abbrev dktX11_go_8 : List UInt8 := dkwX11_go_8 ++ dktX11_go_9
def dkwX11_go_7 : List UInt8 := [167, 255, 209, 42, 44, 182, 0, 75, 181, 0, 11, 42, 178, 0, 79, 181, 0, 55, 167, 0, 159, 27]
abbrev dktX11_go_7 : List UInt8 := dkwX11_go_7 ++ dktX11_go_8
def dkwX11_go_6 : List UInt8 := [42, 180, 0, 35, 182, 0, 38, 146, 182, 0, 71, 87, 42, 89, 180, 0, 35, 4, 96, 181, 0, 35]
abbrev dktX11_go_6 : List UInt8 := dkwX11_go_6 ++ dktX11_go_7
def dkwX11_go_5 : List UInt8 := [42, 180, 0, 35, 182, 0, 38, 184, 0, 58, 153, 0, 39, 44, 182, 0, 67, 16, 12, 162, 0, 17, 44, 42]
abbrev dktX11_go_5 : List UInt8 := dkwX11_go_5 ++ dktX11_go_6
def dkwX11_go_4 : List UInt8 := [181, 0, 55, 167, 0, 244, 27, 184, 0, 58, 153, 0, 81, 187, 0, 62, 89, 16, 9, 183, 0, 64, 77, 42]
abbrev dktX11_go_4 : List UInt8 := dkwX11_go_4 ++ dktX11_go_5
def dkwX11_go_3 : List UInt8 := [180, 0, 35, 182, 0, 38, 60, 42, 180, 0, 35, 42, 180, 0, 28, 161, 0, 13, 42, 178, 0, 49]
abbrev dktX11_go_3 : List UInt8 := dkwX11_go_3 ++ dktX11_go_4
def dkwX11_go_2 : List UInt8 := [167, 255, 209, 42, 42, 180, 0, 35, 181, 0, 42, 42, 18, 9, 181, 0, 11, 42, 3, 181, 0, 45, 42, 42]
abbrev dktX11_go_2 : List UInt8 := dkwX11_go_2 ++ dktX11_go_3
def dkwX11_go_1 : List UInt8 := [42, 42, 180, 0, 35, 182, 0, 38, 16, 10, 160, 0, 16, 42, 89, 180, 0, 35, 4, 96, 181, 0, 35]
abbrev dktX11_go_1 : List UInt8 := dkwX11_go_1 ++ dktX11_go_2
def dkwX11_go_0 : List UInt8 := [42, 180, 0, 35, 42, 180, 0, 28, 162, 0, 42, 42, 42, 180, 0, 35, 182, 0, 38, 16, 32, 159, 0, 16]
abbrev dktX11_go_0 : List UInt8 := dkwX11_go_0 ++ dktX11_go_1
theorem dksX11_go_0 : cX11_go.data.toList.drop 0 = dktX11_go_0 := by decide +kernel
theorem dksX11_go_1 : cX11_go.data.toList.drop 24 = dktX11_go_1 := dk_seg dksX11_go_0 24 rfl rfl
theorem dksX11_go_2 : cX11_go.data.toList.drop 47 = dktX11_go_2 := dk_seg dksX11_go_1 23 rfl rfl
theorem dksX11_go_3 : cX11_go.data.toList.drop 71 = dktX11_go_3 := dk_seg dksX11_go_2 24 rfl rfl
theorem dksX11_go_4 : cX11_go.data.toList.drop 93 = dktX11_go_4 := dk_seg dksX11_go_3 22 rfl rfl
theorem dksX11_go_5 : cX11_go.data.toList.drop 117 = dktX11_go_5 := dk_seg dksX11_go_4 24 rfl rfl
theorem dksX11_go_6 : cX11_go.data.toList.drop 141 = dktX11_go_6 := dk_seg dksX11_go_5 24 rfl rfl
theorem dksX11_go_7 : cX11_go.data.toList.drop 163 = dktX11_go_7 := dk_seg dksX11_go_6 22 rfl rfl
theorem dksX11_go_8 : cX11_go.data.toList.drop 185 = dktX11_go_8 := dk_seg dksX11_go_7 22 rfl rfl
theorem dksX11_go_9 : cX11_go.data.toList.drop 207 = dktX11_go_9 := dk_seg dksX11_go_8 22 rfl rfl
theorem dksX11_go_10 : cX11_go.data.toList.drop 231 = dktX11_go_10 := dk_seg dksX11_go_9 24 rfl rfl
theorem dksX11_go_11 : cX11_go.data.toList.drop 253 = dktX11_go_11 := dk_seg dksX11_go_10 22 rfl rfl
theorem dksX11_go_12 : cX11_go.data.toList.drop 277 = dktX11_go_12 := dk_seg dksX11_go_11 24 rfl rfl
theorem dksX11_go_13 : cX11_go.data.toList.drop 299 = dktX11_go_13 := dk_seg dksX11_go_12 22 rfl rfl
theorem dksX11_go_14 : cX11_go.data.toList.drop 323 = dktX11_go_14 := dk_seg dksX11_go_13 24 rfl rfl
theorem dX11_go_0 : decode cX11_go 0 = .ok (.aload_n 0, 1) := dk_42 (dk_at dksX11_go_0 0 rfl rfl)
theorem dX11_go_1 : decode cX11_go 1 = .ok (.getfield 35, 3) := dk_180 0 35 (dk_at dksX11_go_0 1 rfl rfl)
theorem dX11_go_4 : decode cX11_go 4 = .ok (.aload_n 0, 1) := dk_42 (dk_at dksX11_go_0 4 rfl rfl)
theorem dX11_go_5 : decode cX11_go 5 = .ok (.getfield 28, 3) := dk_180 0 28 (dk_at dksX11_go_0 5 rfl rfl)
theorem dX11_go_8 : decode cX11_go 8 = .ok (.if_icmp .ge 42, 3) := dk_162 0 42 (dk_at dksX11_go_0 8 rfl rfl)
theorem dX11_go_11 : decode cX11_go 11 = .ok (.aload_n 0, 1) := dk_42 (dk_at dksX11_go_0 11 rfl rfl)
theorem dX11_go_12 : decode cX11_go 12 = .ok (.aload_n 0, 1) := dk_42 (dk_at dksX11_go_0 12 rfl rfl)
theorem dX11_go_13 : decode cX11_go 13 = .ok (.getfield 35, 3) := dk_180 0 35 (dk_at dksX11_go_0 13 rfl rfl)
theorem dX11_go_16 : decode cX11_go 16 = .ok (.invokevirtual 38, 3) := dk_182 0 38 (dk_at dksX11_go_0 16 rfl rfl)
theorem dX11_go_19 : decode cX11_go 19 = .ok (.bipush 32, 2) := dk_16 32 (dk_at dksX11_go_0 19 rfl rfl)
theorem dX11_go_21 : decode cX11_go 21 = .ok (.if_icmp .eq 16, 3) := dk_159 0 16 (dk_at dksX11_go_0 21 rfl rfl)
theorem dX11_go_24 : decode cX11_go 24 = .ok (.aload_n 0, 1) := dk_42 (dk_at dksX11_go_1 0 rfl rfl)
theorem dX11_go_25 : decode cX11_go 25 = .ok (.aload_n 0, 1) := dk_42 (dk_at dksX11_go_1 1 rfl rfl)
theorem dX11_go_26 : decode cX11_go 26 = .ok (.getfield 35, 3) := dk_180 0 35 (dk_at dksX11_go_1 2 rfl rfl)
theorem dX11_go_29 : decode cX11_go 29 = .ok (.invokevirtual 38, 3) := dk_182 0 38 (dk_at dksX11_go_1 5 rfl rfl)
theorem dX11_go_32 : decode cX11_go 32 = .ok (.bipush 10, 2) := dk_16 10 (dk_at dksX11_go_1 8 rfl rfl)
theorem dX11_go_34 : decode cX11_go 34 = .ok (.if_icmp .ne 16, 3) := dk_160 0 16 (dk_at dksX11_go_1 10 rfl rfl)
theorem dX11_go_37 : decode cX11_go 37 = .ok (.aload_n 0, 1) := dk_42 (dk_at dksX11_go_1 13 rfl rfl)
theorem dX11_go_38 : decode cX11_go 38 = .ok (.dup, 1) := dk_89 (dk_at dksX11_go_1 14 rfl rfl)
theorem dX11_go_39 : decode cX11_go 39 = .ok (.getfield 35, 3) := dk_180 0 35 (dk_at dksX11_go_1 15 rfl rfl)
theorem dX11_go_42 : decode cX11_go 42 = .ok (.iconst 1, 1) := dk_4 (dk_at dksX11_go_1 18 rfl rfl)
theorem dX11_go_43 : decode cX11_go 43 = .ok (.iadd, 1) := dk_96 (dk_at dksX11_go_1 19 rfl rfl)
theorem dX11_go_44 : decode cX11_go 44 = .ok (.putfield 35, 3) := dk_181 0 35 (dk_at dksX11_go_1 20 rfl rfl)
theorem dX11_go_47 : decode cX11_go 47 = .ok (.goto (-47), 3) := dk_167 255 209 (dk_at dksX11_go_2 0 rfl rfl)
theorem dX11_go_50 : decode cX11_go 50 = .ok (.aload_n 0, 1) := dk_42 (dk_at dksX11_go_2 3 rfl rfl)
theorem dX11_go_51 : decode cX11_go 51 = .ok (.aload_n 0, 1) := dk_42 (dk_at dksX11_go_2 4 rfl rfl)
theorem dX11_go_52 : decode cX11_go 52 = .ok (.getfield 35, 3) := dk_180 0 35 (dk_at dksX11_go_2 5 rfl rfl)
theorem dX11_go_55 : decode cX11_go 55 = .ok (.putfield 42, 3) := dk_181 0 42 (dk_at dksX11_go_2 8 rfl rfl)
theorem dX11_go_58 : decode cX11_go 58 = .ok (.aload_n 0, 1) := dk_42 (dk_at dksX11_go_2 11 rfl rfl)
theorem dX11_go_59 : decode cX11_go 59 = .ok (.ldc 9, 2) := dk_18 9 (dk_at dksX11_go_2 12 rfl rfl)
theorem dX11_go_61 : decode cX11_go 61 = .ok (.putfield 11, 3) := dk_181 0 11 (dk_at dksX11_go_2 14 rfl rfl)
theorem dX11_go_64 : decode cX11_go 64 = .ok (.aload_n 0, 1) := dk_42 (dk_at dksX11_go_2 17 rfl rfl)
theorem dX11_go_65 : decode cX11_go 65 = .ok (.iconst 0, 1) := dk_3 (dk_at dksX11_go_2 18 rfl rfl)
theorem dX11_go_66 : decode cX11_go 66 = .ok (.putfield 45, 3) := dk_181 0 45 (dk_at dksX11_go_2 19 rfl rfl)
theorem dX11_go_69 : decode cX11_go 69 = .ok (.aload_n 0, 1) := dk_42 (dk_at dksX11_go_2 22 rfl rfl)
theorem dX11_go_70 : decode cX11_go 70 = .ok (.aload_n 0, 1) := dk_42 (dk_at dksX11_go_2 23 rfl rfl)
theorem dX11_go_71 : decode cX11_go 71 = .ok (.getfield 35, 3) := dk_180 0 35 (dk_at dksX11_go_3 0 rfl rfl)
theorem dX11_go_74 : decode cX11_go 74 = .ok (.invokevirtual 38, 3) := dk_182 0 38 (dk_at dksX11_go_3 3 rfl rfl)
theorem dX11_go_77 : decode cX11_go 77 = .ok (.istore_n 1, 1) := dk_60 (dk_at dksX11_go_3 6 rfl rfl)
theorem dX11_go_78 : decode cX11_go 78 = .ok (.aload_n 0, 1) := dk_42 (dk_at dksX11_go_3 7 rfl rfl)
theorem dX11_go_79 : decode cX11_go 79 = .ok (.getfield 35, 3) := dk_180 0 35 (dk_at dksX11_go_3 8 rfl rfl)
theorem dX11_go_82 : decode cX11_go 82 = .ok (.aload_n 0, 1) := dk_42 (dk_at dksX11_go_3 11 rfl rfl)
theorem dX11_go_83 : decode cX11_go 83 = .ok (.getfield 28, 3) := dk_180 0 28 (dk_at dksX11_go_3 12 rfl rfl)
theorem dX11_go_86 : decode cX11_go 86 = .ok (.if_icmp .lt 13, 3) := dk_161 0 13 (dk_at dksX11_go_3 15 rfl rfl)
theorem dX11_go_89 : decode cX11_go 89 = .ok (.aload_n 0, 1) := dk_42 (dk_at dksX11_go_3 18 rfl rfl)
theorem dX11_go_90 : decode cX11_go 90 = .ok (.getstatic 49, 3) := dk_178 0 49 (dk_at dksX11_go_3 19 rfl rfl)
theorem dX11_go_93 : decode cX11_go 93 = .ok (.putfield 55, 3) := dk_181 0 55 (dk_at dksX11_go_4 0 rfl rfl)
theorem dX11_go_96 : decode cX11_go 96 = .ok (.goto 244, 3) := dk_167 0 244 (dk_at dksX11_go_4 3 rfl rfl)
theorem dX11_go_99 : decode cX11_go 99 = .ok (.iload_n 1, 1) := dk_27 (dk_at dksX11_go_4 6 rfl rfl)
theorem dX11_go_100 : decode cX11_go 100 = .ok (.invokestatic 58, 3) := dk_184 0 58 (dk_at dksX11_go_4 7 rfl rfl)
theorem dX11_go_103 : decode cX11_go 103 = .ok (.ifCond .eq 81, 3) := dk_153 0 81 (dk_at dksX11_go_4 10 rfl rfl)
theorem dX11_go_106 : decode cX11_go 106 = .ok (.new 62, 3) := dk_187 0 62 (dk_at dksX11_go_4 13 rfl rfl)
theorem dX11_go_109 : decode cX11_go 109 = .ok (.dup, 1) := dk_89 (dk_at dksX11_go_4 16 rfl rfl)
theorem dX11_go_110 : decode cX11_go 110 = .ok (.bipush 9, 2) := dk_16 9 (dk_at dksX11_go_4 17 rfl rfl)
theorem dX11_go_112 : decode cX11_go 112 = .ok (.invokespecial 64, 3) := dk_183 0 64 (dk_at dksX11_go_4 19 rfl rfl)
theorem dX11_go_115 : decode cX11_go 115 = .ok (.astore_n 2, 1) := dk_77 (dk_at dksX11_go_4 22 rfl rfl)
theorem dX11_go_116 : decode cX11_go 116 = .ok (.aload_n 0, 1) := dk_42 (dk_at dksX11_go_4 23 rfl rfl)
theorem dX11_go_117 : decode cX11_go 117 = .ok (.aload_n 0, 1) := dk_42 (dk_at dksX11_go_5 0 rfl rfl)
theorem dX11_go_118 : decode cX11_go 118 = .ok (.getfield 35, 3) := dk_180 0 35 (dk_at dksX11_go_5 1 rfl rfl)
theorem dX11_go_121 : decode cX11_go 121 = .ok (.invokevirtual 38, 3) := dk_182 0 38 (dk_at dksX11_go_5 4 rfl rfl)
theorem dX11_go_124 : decode cX11_go 124 = .ok (.invokestatic 58, 3) := dk_184 0 58 (dk_at dksX11_go_5 7 rfl rfl)
theorem dX11_go_127 : decode cX11_go 127 = .ok (.ifCond .eq 39, 3) := dk_153 0 39 (dk_at dksX11_go_5 10 rfl rfl)
theorem dX11_go_130 : decode cX11_go 130 = .ok (.aload_n 2, 1) := dk_44 (dk_at dksX11_go_5 13 rfl rfl)
theorem dX11_go_131 : decode cX11_go 131 = .ok (.invokevirtual 67, 3) := dk_182 0 67 (dk_at dksX11_go_5 14 rfl rfl)
theorem dX11_go_134 : decode cX11_go 134 = .ok (.bipush 12, 2) := dk_16 12 (dk_at dksX11_go_5 17 rfl rfl)
theorem dX11_go_136 : decode cX11_go 136 = .ok (.if_icmp .ge 17, 3) := dk_162 0 17 (dk_at dksX11_go_5 19 rfl rfl)
theorem dX11_go_139 : decode cX11_go 139 = .ok (.aload_n 2, 1) := dk_44 (dk_at dksX11_go_5 22 rfl rfl)
theorem dX11_go_140 : decode cX11_go 140 = .ok (.aload_n 0, 1) := dk_42 (dk_at dksX11_go_5 23 rfl rfl)
theorem dX11_go_141 : decode cX11_go 141 = .ok (.aload_n 0, 1) := dk_42 (dk_at dksX11_go_6 0 rfl rfl)
theorem dX11_go_142 : decode cX11_go 142 = .ok (.getfield 35, 3) := dk_180 0 35 (dk_at dksX11_go_6 1 rfl rfl)
theorem dX11_go_145 : decode cX11_go 145 = .ok (.invokevirtual 38, 3) := dk_182 0 38 (dk_at dksX11_go_6 4 rfl rfl)
theorem dX11_go_148 : decode cX11_go 148 = .ok (.i2c, 1) := dk_146 (dk_at dksX11_go_6 7 rfl rfl)
theorem dX11_go_149 : decode cX11_go 149 = .ok (.invokevirtual 71, 3) := dk_182 0 71 (dk_at dksX11_go_6 8 rfl rfl)
theorem dX11_go_152 : decode cX11_go 152 = .ok (.pop, 1) := dk_87 (dk_at dksX11_go_6 11 rfl rfl)
theorem dX11_go_153 : decode cX11_go 153 = .ok (.aload_n 0, 1) := dk_42 (dk_at dksX11_go_6 12 rfl rfl)
theorem dX11_go_154 : decode cX11_go 154 = .ok (.dup, 1) := dk_89 (dk_at dksX11_go_6 13 rfl rfl)
theorem dX11_go_155 : decode cX11_go 155 = .ok (.getfield 35, 3) := dk_180 0 35 (dk_at dksX11_go_6 14 rfl rfl)
theorem dX11_go_158 : decode cX11_go 158 = .ok (.iconst 1, 1) := dk_4 (dk_at dksX11_go_6 17 rfl rfl)
theorem dX11_go_159 : decode cX11_go 159 = .ok (.iadd, 1) := dk_96 (dk_at dksX11_go_6 18 rfl rfl)
theorem dX11_go_160 : decode cX11_go 160 = .ok (.putfield 35, 3) := dk_181 0 35 (dk_at dksX11_go_6 19 rfl rfl)
theorem dX11_go_163 : decode cX11_go 163 = .ok (.goto (-47), 3) := dk_167 255 209 (dk_at dksX11_go_7 0 rfl rfl)
theorem dX11_go_166 : decode cX11_go 166 = .ok (.aload_n 0, 1) := dk_42 (dk_at dksX11_go_7 3 rfl rfl)
theorem dX11_go_167 : decode cX11_go 167 = .ok (.aload_n 2, 1) := dk_44 (dk_at dksX11_go_7 4 rfl rfl)
theorem dX11_go_168 : decode cX11_go 168 = .ok (.invokevirtual 75, 3) := dk_182 0 75 (dk_at dksX11_go_7 5 rfl rfl)
theorem dX11_go_171 : decode cX11_go 171 = .ok (.putfield 11, 3) := dk_181 0 11 (dk_at dksX11_go_7 8 rfl rfl)
theorem dX11_go_174 : decode cX11_go 174 = .ok (.aload_n 0, 1) := dk_42 (dk_at dksX11_go_7 11 rfl rfl)
theorem dX11_go_175 : decode cX11_go 175 = .ok (.getstatic 79, 3) := dk_178 0 79 (dk_at dksX11_go_7 12 rfl rfl)
theorem dX11_go_178 : decode cX11_go 178 = .ok (.putfield 55, 3) := dk_181 0 55 (dk_at dksX11_go_7 15 rfl rfl)
theorem dX11_go_181 : decode cX11_go 181 = .ok (.goto 159, 3) := dk_167 0 159 (dk_at dksX11_go_7 18 rfl rfl)
theorem dX11_go_184 : decode cX11_go 184 = .ok (.iload_n 1, 1) := dk_27 (dk_at dksX11_go_7 21 rfl rfl)
theorem dX11_go_185 : decode cX11_go 185 = .ok (.invokestatic 82, 3) := dk_184 0 82 (dk_at dksX11_go_8 0 rfl rfl)
theorem dX11_go_188 : decode cX11_go 188 = .ok (.ifCond .eq 103, 3) := dk_153 0 103 (dk_at dksX11_go_8 3 rfl rfl)
theorem dX11_go_191 : decode cX11_go 191 = .ok (.aload_n 0, 1) := dk_42 (dk_at dksX11_go_8 6 rfl rfl)
theorem dX11_go_192 : decode cX11_go 192 = .ok (.iconst 0, 1) := dk_3 (dk_at dksX11_go_8 7 rfl rfl)
theorem dX11_go_193 : decode cX11_go 193 = .ok (.putfield 85, 3) := dk_181 0 85 (dk_at dksX11_go_8 8 rfl rfl)
theorem dX11_go_196 : decode cX11_go 196 = .ok (.aload_n 0, 1) := dk_42 (dk_at dksX11_go_8 11 rfl rfl)
theorem dX11_go_197 : decode cX11_go 197 = .ok (.aload_n 0, 1) := dk_42 (dk_at dksX11_go_8 12 rfl rfl)
theorem dX11_go_198 : decode cX11_go 198 = .ok (.getfield 35, 3) := dk_180 0 35 (dk_at dksX11_go_8 13 rfl rfl)
theorem dX11_go_201 : decode cX11_go 201 = .ok (.invokevirtual 38, 3) := dk_182 0 38 (dk_at dksX11_go_8 16 rfl rfl)
theorem dX11_go_204 : decode cX11_go 204 = .ok (.invokestatic 82, 3) := dk_184 0 82 (dk_at dksX11_go_8 19 rfl rfl)
theorem dX11_go_207 : decode cX11_go 207 = .ok (.ifCond .eq 52, 3) := dk_153 0 52 (dk_at dksX11_go_9 0 rfl rfl)
theorem dX11_go_210 : decode cX11_go 210 = .ok (.aload_n 0, 1) := dk_42 (dk_at dksX11_go_9 3 rfl rfl)
theorem dX11_go_211 : decode cX11_go 211 = .ok (.getfield 35, 3) := dk_180 0 35 (dk_at dksX11_go_9 4 rfl rfl)
theorem dX11_go_214 : decode cX11_go 214 = .ok (.aload_n 0, 1) := dk_42 (dk_at dksX11_go_9 7 rfl rfl)
theorem dX11_go_215 : decode cX11_go 215 = .ok (.getfield 42, 3) := dk_180 0 42 (dk_at dksX11_go_9 8 rfl rfl)
theorem dX11_go_218 : decode cX11_go 218 = .ok (.isub, 1) := dk_100 (dk_at dksX11_go_9 11 rfl rfl)
theorem dX11_go_219 : decode cX11_go 219 = .ok (.iconst 4, 1) := dk_7 (dk_at dksX11_go_9 12 rfl rfl)
theorem dX11_go_220 : decode cX11_go 220 = .ok (.if_icmp .ge 26, 3) := dk_162 0 26 (dk_at dksX11_go_9 13 rfl rfl)
theorem dX11_go_223 : decode cX11_go 223 = .ok (.aload_n 0, 1) := dk_42 (dk_at dksX11_go_9 16 rfl rfl)
theorem dX11_go_224 : decode cX11_go 224 = .ok (.bipush 10, 2) := dk_16 10 (dk_at dksX11_go_9 17 rfl rfl)
theorem dX11_go_226 : decode cX11_go 226 = .ok (.aload_n 0, 1) := dk_42 (dk_at dksX11_go_9 19 rfl rfl)
theorem dX11_go_227 : decode cX11_go 227 = .ok (.getfield 85, 3) := dk_180 0 85 (dk_at dksX11_go_9 20 rfl rfl)
theorem dX11_go_230 : decode cX11_go 230 = .ok (.imul, 1) := dk_104 (dk_at dksX11_go_9 23 rfl rfl)
theorem dX11_go_231 : decode cX11_go 231 = .ok (.aload_n 0, 1) := dk_42 (dk_at dksX11_go_10 0 rfl rfl)
theorem dX11_go_232 : decode cX11_go 232 = .ok (.aload_n 0, 1) := dk_42 (dk_at dksX11_go_10 1 rfl rfl)
theorem dX11_go_233 : decode cX11_go 233 = .ok (.getfield 35, 3) := dk_180 0 35 (dk_at dksX11_go_10 2 rfl rfl)
theorem dX11_go_236 : decode cX11_go 236 = .ok (.invokevirtual 38, 3) := dk_182 0 38 (dk_at dksX11_go_10 5 rfl rfl)
theorem dX11_go_239 : decode cX11_go 239 = .ok (.iadd, 1) := dk_96 (dk_at dksX11_go_10 8 rfl rfl)
theorem dX11_go_240 : decode cX11_go 240 = .ok (.bipush 48, 2) := dk_16 48 (dk_at dksX11_go_10 9 rfl rfl)
theorem dX11_go_242 : decode cX11_go 242 = .ok (.isub, 1) := dk_100 (dk_at dksX11_go_10 11 rfl rfl)
theorem dX11_go_243 : decode cX11_go 243 = .ok (.putfield 85, 3) := dk_181 0 85 (dk_at dksX11_go_10 12 rfl rfl)
theorem dX11_go_246 : decode cX11_go 246 = .ok (.aload_n 0, 1) := dk_42 (dk_at dksX11_go_10 15 rfl rfl)
theorem dX11_go_247 : decode cX11_go 247 = .ok (.dup, 1) := dk_89 (dk_at dksX11_go_10 16 rfl rfl)
theorem dX11_go_248 : decode cX11_go 248 = .ok (.getfield 35, 3) := dk_180 0 35 (dk_at dksX11_go_10 17 rfl rfl)
theorem dX11_go_251 : decode cX11_go 251 = .ok (.iconst 1, 1) := dk_4 (dk_at dksX11_go_10 20 rfl rfl)
theorem dX11_go_252 : decode cX11_go 252 = .ok (.iadd, 1) := dk_96 (dk_at dksX11_go_10 21 rfl rfl)
theorem dX11_go_253 : decode cX11_go 253 = .ok (.putfield 35, 3) := dk_181 0 35 (dk_at dksX11_go_11 0 rfl rfl)
theorem dX11_go_256 : decode cX11_go 256 = .ok (.goto (-60), 3) := dk_167 255 196 (dk_at dksX11_go_11 3 rfl rfl)
theorem dX11_go_259 : decode cX11_go 259 = .ok (.aload_n 0, 1) := dk_42 (dk_at dksX11_go_11 6 rfl rfl)
theorem dX11_go_260 : decode cX11_go 260 = .ok (.aload_n 0, 1) := dk_42 (dk_at dksX11_go_11 7 rfl rfl)
theorem dX11_go_261 : decode cX11_go 261 = .ok (.getfield 35, 3) := dk_180 0 35 (dk_at dksX11_go_11 8 rfl rfl)
theorem dX11_go_264 : decode cX11_go 264 = .ok (.aload_n 0, 1) := dk_42 (dk_at dksX11_go_11 11 rfl rfl)
theorem dX11_go_265 : decode cX11_go 265 = .ok (.getfield 42, 3) := dk_180 0 42 (dk_at dksX11_go_11 12 rfl rfl)
theorem dX11_go_268 : decode cX11_go 268 = .ok (.isub, 1) := dk_100 (dk_at dksX11_go_11 15 rfl rfl)
theorem dX11_go_269 : decode cX11_go 269 = .ok (.iconst 4, 1) := dk_7 (dk_at dksX11_go_11 16 rfl rfl)
theorem dX11_go_270 : decode cX11_go 270 = .ok (.if_icmp .le 7, 3) := dk_164 0 7 (dk_at dksX11_go_11 17 rfl rfl)
theorem dX11_go_273 : decode cX11_go 273 = .ok (.iconst 1, 1) := dk_4 (dk_at dksX11_go_11 20 rfl rfl)
theorem dX11_go_274 : decode cX11_go 274 = .ok (.goto 4, 3) := dk_167 0 4 (dk_at dksX11_go_11 21 rfl rfl)
theorem dX11_go_277 : decode cX11_go 277 = .ok (.iconst 0, 1) := dk_3 (dk_at dksX11_go_12 0 rfl rfl)
theorem dX11_go_278 : decode cX11_go 278 = .ok (.putfield 45, 3) := dk_181 0 45 (dk_at dksX11_go_12 1 rfl rfl)
theorem dX11_go_281 : decode cX11_go 281 = .ok (.aload_n 0, 1) := dk_42 (dk_at dksX11_go_12 4 rfl rfl)
theorem dX11_go_282 : decode cX11_go 282 = .ok (.getstatic 88, 3) := dk_178 0 88 (dk_at dksX11_go_12 5 rfl rfl)
theorem dX11_go_285 : decode cX11_go 285 = .ok (.putfield 55, 3) := dk_181 0 55 (dk_at dksX11_go_12 8 rfl rfl)
theorem dX11_go_288 : decode cX11_go 288 = .ok (.goto 52, 3) := dk_167 0 52 (dk_at dksX11_go_12 11 rfl rfl)
theorem dX11_go_291 : decode cX11_go 291 = .ok (.aload_n 0, 1) := dk_42 (dk_at dksX11_go_12 14 rfl rfl)
theorem dX11_go_292 : decode cX11_go 292 = .ok (.iload_n 1, 1) := dk_27 (dk_at dksX11_go_12 15 rfl rfl)
theorem dX11_go_293 : decode cX11_go 293 = .ok (.invokestatic 91, 3) := dk_184 0 91 (dk_at dksX11_go_12 16 rfl rfl)
theorem dX11_go_296 : decode cX11_go 296 = .ok (.ifCond .eq 9, 3) := dk_153 0 9 (dk_at dksX11_go_12 19 rfl rfl)
theorem dX11_go_299 : decode cX11_go 299 = .ok (.getstatic 94, 3) := dk_178 0 94 (dk_at dksX11_go_13 0 rfl rfl)
theorem dX11_go_302 : decode cX11_go 302 = .ok (.goto 6, 3) := dk_167 0 6 (dk_at dksX11_go_13 3 rfl rfl)
theorem dX11_go_305 : decode cX11_go 305 = .ok (.getstatic 97, 3) := dk_178 0 97 (dk_at dksX11_go_13 6 rfl rfl)
theorem dX11_go_308 : decode cX11_go 308 = .ok (.putfield 55, 3) := dk_181 0 55 (dk_at dksX11_go_13 9 rfl rfl)
theorem dX11_go_311 : decode cX11_go 311 = .ok (.aload_n 0, 1) := dk_42 (dk_at dksX11_go_13 12 rfl rfl)
theorem dX11_go_312 : decode cX11_go 312 = .ok (.getfield 55, 3) := dk_180 0 55 (dk_at dksX11_go_13 13 rfl rfl)
theorem dX11_go_315 : decode cX11_go 315 = .ok (.getstatic 94, 3) := dk_178 0 94 (dk_at dksX11_go_13 16 rfl rfl)
theorem dX11_go_318 : decode cX11_go 318 = .ok (.if_acmp .ne 12, 3) := dk_166 0 12 (dk_at dksX11_go_13 19 rfl rfl)
theorem dX11_go_321 : decode cX11_go 321 = .ok (.aload_n 0, 1) := dk_42 (dk_at dksX11_go_13 22 rfl rfl)
theorem dX11_go_322 : decode cX11_go 322 = .ok (.iload_n 1, 1) := dk_27 (dk_at dksX11_go_13 23 rfl rfl)
theorem dX11_go_323 : decode cX11_go 323 = .ok (.i2c, 1) := dk_146 (dk_at dksX11_go_14 0 rfl rfl)
theorem dX11_go_324 : decode cX11_go 324 = .ok (.invokestatic 100, 3) := dk_184 0 100 (dk_at dksX11_go_14 1 rfl rfl)
theorem dX11_go_327 : decode cX11_go 327 = .ok (.putfield 11, 3) := dk_181 0 11 (dk_at dksX11_go_14 4 rfl rfl)
theorem dX11_go_330 : decode cX11_go 330 = .ok (.aload_n 0, 1) := dk_42 (dk_at dksX11_go_14 7 rfl rfl)
theorem dX11_go_331 : decode cX11_go 331 = .ok (.dup, 1) := dk_89 (dk_at dksX11_go_14 8 rfl rfl)
theorem dX11_go_332 : decode cX11_go 332 = .ok (.getfield 35, 3) := dk_180 0 35 (dk_at dksX11_go_14 9 rfl rfl)
theorem dX11_go_335 : decode cX11_go 335 = .ok (.iconst 1, 1) := dk_4 (dk_at dksX11_go_14 12 rfl rfl)
theorem dX11_go_336 : decode cX11_go 336 = .ok (.iadd, 1) := dk_96 (dk_at dksX11_go_14 13 rfl rfl)
theorem dX11_go_337 : decode cX11_go 337 = .ok (.putfield 35, 3) := dk_181 0 35 (dk_at dksX11_go_14 14 rfl rfl)
theorem dX11_go_340 : decode cX11_go 340 = .ok (.return_, 1) := dk_177 (dk_at dksX11_go_14 17 rfl rfl)
abbrev cX11_byteAt : ByteArray := prog_13_method_2_code
def yX11_byteAt : MethodName := ⟨RX11, "byteAt", "(I)I"⟩
def dkwX11_byteAt_0 : List UInt8 := [27, 42, 180, 0, 28, 162, 0, 16, 42, 180, 0, 24, 27, 51, 17, 0, 255, 126, 167, 0, 4, 3, 172]
abbrev dktX11_byteAt_0 : List UInt8 := dkwX11_byteAt_0 ++ []
theorem dksX11_byteAt_0 : cX11_byteAt.data.toList.drop 0 = dktX11_byteAt_0 := by decide +kernel
theorem dX11_byteAt_0 : decode cX11_byteAt 0 = .ok (.iload_n 1, 1) := dk_27 (dk_at dksX11_byteAt_0 0 rfl rfl)
theorem dX11_byteAt_1 : decode cX11_byteAt 1 = .ok (.aload_n 0, 1) := dk_42 (dk_at dksX11_byteAt_0 1 rfl rfl)
theorem dX11_byteAt_2 : decode cX11_byteAt 2 = .ok (.getfield 28, 3) := dk_180 0 28 (dk_at dksX11_byteAt_0 2 rfl rfl)
theorem dX11_byteAt_5 : decode cX11_byteAt 5 = .ok (.if_icmp .ge 16, 3) := dk_162 0 16 (dk_at dksX11_byteAt_0 5 rfl rfl)
theorem dX11_byteAt_8 : decode cX11_byteAt 8 = .ok (.aload_n 0, 1) := dk_42 (dk_at dksX11_byteAt_0 8 rfl rfl)
theorem dX11_byteAt_9 : decode cX11_byteAt 9 = .ok (.getfield 24, 3) := dk_180 0 24 (dk_at dksX11_byteAt_0 9 rfl rfl)
theorem dX11_byteAt_12 : decode cX11_byteAt 12 = .ok (.iload_n 1, 1) := dk_27 (dk_at dksX11_byteAt_0 12 rfl rfl)
theorem dX11_byteAt_13 : decode cX11_byteAt 13 = .ok (.baload, 1) := dk_51 (dk_at dksX11_byteAt_0 13 rfl rfl)
theorem dX11_byteAt_14 : decode cX11_byteAt 14 = .ok (.sipush 255, 3) := dk_17 0 255 (dk_at dksX11_byteAt_0 14 rfl rfl)
theorem dX11_byteAt_17 : decode cX11_byteAt 17 = .ok (.iand, 1) := dk_126 (dk_at dksX11_byteAt_0 17 rfl rfl)
theorem dX11_byteAt_18 : decode cX11_byteAt 18 = .ok (.goto 4, 3) := dk_167 0 4 (dk_at dksX11_byteAt_0 18 rfl rfl)
theorem dX11_byteAt_21 : decode cX11_byteAt 21 = .ok (.iconst 0, 1) := dk_3 (dk_at dksX11_byteAt_0 21 rfl rfl)
theorem dX11_byteAt_22 : decode cX11_byteAt 22 = .ok (.ireturn, 1) := dk_172 (dk_at dksX11_byteAt_0 22 rfl rfl)
abbrev cX11_isLetter : ByteArray := prog_13_method_3_code
def yX11_isLetter : MethodName := ⟨RX11, "isLetter", "(I)Z"⟩
def dkwX11_isLetter_0 : List UInt8 := [26, 16, 97, 161, 0, 13, 26, 16, 122, 163, 0, 7, 4, 167, 0, 4, 3, 172]
abbrev dktX11_isLetter_0 : List UInt8 := dkwX11_isLetter_0 ++ []
theorem dksX11_isLetter_0 : cX11_isLetter.data.toList.drop 0 = dktX11_isLetter_0 := by decide +kernel
theorem dX11_isLetter_0 : decode cX11_isLetter 0 = .ok (.iload_n 0, 1) := dk_26 (dk_at dksX11_isLetter_0 0 rfl rfl)
theorem dX11_isLetter_1 : decode cX11_isLetter 1 = .ok (.bipush 97, 2) := dk_16 97 (dk_at dksX11_isLetter_0 1 rfl rfl)
theorem dX11_isLetter_3 : decode cX11_isLetter 3 = .ok (.if_icmp .lt 13, 3) := dk_161 0 13 (dk_at dksX11_isLetter_0 3 rfl rfl)
theorem dX11_isLetter_6 : decode cX11_isLetter 6 = .ok (.iload_n 0, 1) := dk_26 (dk_at dksX11_isLetter_0 6 rfl rfl)
theorem dX11_isLetter_7 : decode cX11_isLetter 7 = .ok (.bipush 122, 2) := dk_16 122 (dk_at dksX11_isLetter_0 7 rfl rfl)
theorem dX11_isLetter_9 : decode cX11_isLetter 9 = .ok (.if_icmp .gt 7, 3) := dk_163 0 7 (dk_at dksX11_isLetter_0 9 rfl rfl)
theorem dX11_isLetter_12 : decode cX11_isLetter 12 = .ok (.iconst 1, 1) := dk_4 (dk_at dksX11_isLetter_0 12 rfl rfl)
theorem dX11_isLetter_13 : decode cX11_isLetter 13 = .ok (.goto 4, 3) := dk_167 0 4 (dk_at dksX11_isLetter_0 13 rfl rfl)
theorem dX11_isLetter_16 : decode cX11_isLetter 16 = .ok (.iconst 0, 1) := dk_3 (dk_at dksX11_isLetter_0 16 rfl rfl)
theorem dX11_isLetter_17 : decode cX11_isLetter 17 = .ok (.ireturn, 1) := dk_172 (dk_at dksX11_isLetter_0 17 rfl rfl)
abbrev cX11_isDigit : ByteArray := prog_13_method_4_code
def yX11_isDigit : MethodName := ⟨RX11, "isDigit", "(I)Z"⟩
def dkwX11_isDigit_0 : List UInt8 := [26, 16, 48, 161, 0, 13, 26, 16, 57, 163, 0, 7, 4, 167, 0, 4, 3, 172]
abbrev dktX11_isDigit_0 : List UInt8 := dkwX11_isDigit_0 ++ []
theorem dksX11_isDigit_0 : cX11_isDigit.data.toList.drop 0 = dktX11_isDigit_0 := by decide +kernel
theorem dX11_isDigit_0 : decode cX11_isDigit 0 = .ok (.iload_n 0, 1) := dk_26 (dk_at dksX11_isDigit_0 0 rfl rfl)
theorem dX11_isDigit_1 : decode cX11_isDigit 1 = .ok (.bipush 48, 2) := dk_16 48 (dk_at dksX11_isDigit_0 1 rfl rfl)
theorem dX11_isDigit_3 : decode cX11_isDigit 3 = .ok (.if_icmp .lt 13, 3) := dk_161 0 13 (dk_at dksX11_isDigit_0 3 rfl rfl)
theorem dX11_isDigit_6 : decode cX11_isDigit 6 = .ok (.iload_n 0, 1) := dk_26 (dk_at dksX11_isDigit_0 6 rfl rfl)
theorem dX11_isDigit_7 : decode cX11_isDigit 7 = .ok (.bipush 57, 2) := dk_16 57 (dk_at dksX11_isDigit_0 7 rfl rfl)
theorem dX11_isDigit_9 : decode cX11_isDigit 9 = .ok (.if_icmp .gt 7, 3) := dk_163 0 7 (dk_at dksX11_isDigit_0 9 rfl rfl)
theorem dX11_isDigit_12 : decode cX11_isDigit 12 = .ok (.iconst 1, 1) := dk_4 (dk_at dksX11_isDigit_0 12 rfl rfl)
theorem dX11_isDigit_13 : decode cX11_isDigit 13 = .ok (.goto 4, 3) := dk_167 0 4 (dk_at dksX11_isDigit_0 13 rfl rfl)
theorem dX11_isDigit_16 : decode cX11_isDigit 16 = .ok (.iconst 0, 1) := dk_3 (dk_at dksX11_isDigit_0 16 rfl rfl)
theorem dX11_isDigit_17 : decode cX11_isDigit 17 = .ok (.ireturn, 1) := dk_172 (dk_at dksX11_isDigit_0 17 rfl rfl)
abbrev cX11_isSign : ByteArray := prog_13_method_5_code
def yX11_isSign : MethodName := ⟨RX11, "isSign", "(I)Z"⟩
def dkwX11_isSign_2 : List UInt8 := [26, 16, 61, 160, 0, 7, 4, 167, 0, 4, 3, 172]
abbrev dktX11_isSign_2 : List UInt8 := dkwX11_isSign_2 ++ []
def dkwX11_isSign_1 : List UInt8 := [26, 16, 45, 159, 0, 27, 26, 16, 42, 159, 0, 21, 26, 16, 47, 159, 0, 15, 26, 16, 60, 159, 0, 9]
abbrev dktX11_isSign_1 : List UInt8 := dkwX11_isSign_1 ++ dktX11_isSign_2
def dkwX11_isSign_0 : List UInt8 := [26, 16, 59, 159, 0, 51, 26, 16, 40, 159, 0, 45, 26, 16, 41, 159, 0, 39, 26, 16, 43, 159, 0, 33]
abbrev dktX11_isSign_0 : List UInt8 := dkwX11_isSign_0 ++ dktX11_isSign_1
theorem dksX11_isSign_0 : cX11_isSign.data.toList.drop 0 = dktX11_isSign_0 := by decide +kernel
theorem dksX11_isSign_1 : cX11_isSign.data.toList.drop 24 = dktX11_isSign_1 := dk_seg dksX11_isSign_0 24 rfl rfl
theorem dksX11_isSign_2 : cX11_isSign.data.toList.drop 48 = dktX11_isSign_2 := dk_seg dksX11_isSign_1 24 rfl rfl
theorem dX11_isSign_0 : decode cX11_isSign 0 = .ok (.iload_n 0, 1) := dk_26 (dk_at dksX11_isSign_0 0 rfl rfl)
theorem dX11_isSign_1 : decode cX11_isSign 1 = .ok (.bipush 59, 2) := dk_16 59 (dk_at dksX11_isSign_0 1 rfl rfl)
theorem dX11_isSign_3 : decode cX11_isSign 3 = .ok (.if_icmp .eq 51, 3) := dk_159 0 51 (dk_at dksX11_isSign_0 3 rfl rfl)
theorem dX11_isSign_6 : decode cX11_isSign 6 = .ok (.iload_n 0, 1) := dk_26 (dk_at dksX11_isSign_0 6 rfl rfl)
theorem dX11_isSign_7 : decode cX11_isSign 7 = .ok (.bipush 40, 2) := dk_16 40 (dk_at dksX11_isSign_0 7 rfl rfl)
theorem dX11_isSign_9 : decode cX11_isSign 9 = .ok (.if_icmp .eq 45, 3) := dk_159 0 45 (dk_at dksX11_isSign_0 9 rfl rfl)
theorem dX11_isSign_12 : decode cX11_isSign 12 = .ok (.iload_n 0, 1) := dk_26 (dk_at dksX11_isSign_0 12 rfl rfl)
theorem dX11_isSign_13 : decode cX11_isSign 13 = .ok (.bipush 41, 2) := dk_16 41 (dk_at dksX11_isSign_0 13 rfl rfl)
theorem dX11_isSign_15 : decode cX11_isSign 15 = .ok (.if_icmp .eq 39, 3) := dk_159 0 39 (dk_at dksX11_isSign_0 15 rfl rfl)
theorem dX11_isSign_18 : decode cX11_isSign 18 = .ok (.iload_n 0, 1) := dk_26 (dk_at dksX11_isSign_0 18 rfl rfl)
theorem dX11_isSign_19 : decode cX11_isSign 19 = .ok (.bipush 43, 2) := dk_16 43 (dk_at dksX11_isSign_0 19 rfl rfl)
theorem dX11_isSign_21 : decode cX11_isSign 21 = .ok (.if_icmp .eq 33, 3) := dk_159 0 33 (dk_at dksX11_isSign_0 21 rfl rfl)
theorem dX11_isSign_24 : decode cX11_isSign 24 = .ok (.iload_n 0, 1) := dk_26 (dk_at dksX11_isSign_1 0 rfl rfl)
theorem dX11_isSign_25 : decode cX11_isSign 25 = .ok (.bipush 45, 2) := dk_16 45 (dk_at dksX11_isSign_1 1 rfl rfl)
theorem dX11_isSign_27 : decode cX11_isSign 27 = .ok (.if_icmp .eq 27, 3) := dk_159 0 27 (dk_at dksX11_isSign_1 3 rfl rfl)
theorem dX11_isSign_30 : decode cX11_isSign 30 = .ok (.iload_n 0, 1) := dk_26 (dk_at dksX11_isSign_1 6 rfl rfl)
theorem dX11_isSign_31 : decode cX11_isSign 31 = .ok (.bipush 42, 2) := dk_16 42 (dk_at dksX11_isSign_1 7 rfl rfl)
theorem dX11_isSign_33 : decode cX11_isSign 33 = .ok (.if_icmp .eq 21, 3) := dk_159 0 21 (dk_at dksX11_isSign_1 9 rfl rfl)
theorem dX11_isSign_36 : decode cX11_isSign 36 = .ok (.iload_n 0, 1) := dk_26 (dk_at dksX11_isSign_1 12 rfl rfl)
theorem dX11_isSign_37 : decode cX11_isSign 37 = .ok (.bipush 47, 2) := dk_16 47 (dk_at dksX11_isSign_1 13 rfl rfl)
theorem dX11_isSign_39 : decode cX11_isSign 39 = .ok (.if_icmp .eq 15, 3) := dk_159 0 15 (dk_at dksX11_isSign_1 15 rfl rfl)
theorem dX11_isSign_42 : decode cX11_isSign 42 = .ok (.iload_n 0, 1) := dk_26 (dk_at dksX11_isSign_1 18 rfl rfl)
theorem dX11_isSign_43 : decode cX11_isSign 43 = .ok (.bipush 60, 2) := dk_16 60 (dk_at dksX11_isSign_1 19 rfl rfl)
theorem dX11_isSign_45 : decode cX11_isSign 45 = .ok (.if_icmp .eq 9, 3) := dk_159 0 9 (dk_at dksX11_isSign_1 21 rfl rfl)
theorem dX11_isSign_48 : decode cX11_isSign 48 = .ok (.iload_n 0, 1) := dk_26 (dk_at dksX11_isSign_2 0 rfl rfl)
theorem dX11_isSign_49 : decode cX11_isSign 49 = .ok (.bipush 61, 2) := dk_16 61 (dk_at dksX11_isSign_2 1 rfl rfl)
theorem dX11_isSign_51 : decode cX11_isSign 51 = .ok (.if_icmp .ne 7, 3) := dk_160 0 7 (dk_at dksX11_isSign_2 3 rfl rfl)
theorem dX11_isSign_54 : decode cX11_isSign 54 = .ok (.iconst 1, 1) := dk_4 (dk_at dksX11_isSign_2 6 rfl rfl)
theorem dX11_isSign_55 : decode cX11_isSign 55 = .ok (.goto 4, 3) := dk_167 0 4 (dk_at dksX11_isSign_2 7 rfl rfl)
theorem dX11_isSign_58 : decode cX11_isSign 58 = .ok (.iconst 0, 1) := dk_3 (dk_at dksX11_isSign_2 10 rfl rfl)
theorem dX11_isSign_59 : decode cX11_isSign 59 = .ok (.ireturn, 1) := dk_172 (dk_at dksX11_isSign_2 11 rfl rfl)
abbrev cX11_whole : ByteArray := prog_13_method_12_code
def yX11_whole : MethodName := ⟨RX11, "whole", "()LCircuitCells$Line;"⟩
def dkwX11_whole_1 : List UInt8 := [18, 136, 182, 0, 138, 167, 255, 235, 43, 176]
abbrev dktX11_whole_1 : List UInt8 := dkwX11_whole_1 ++ []
def dkwX11_whole_0 : List UInt8 := [187, 0, 129, 89, 183, 0, 131, 76, 42, 180, 0, 55, 178, 0, 49, 165, 0, 17, 42, 43, 182, 0, 132, 42]
abbrev dktX11_whole_0 : List UInt8 := dkwX11_whole_0 ++ dktX11_whole_1
theorem dksX11_whole_0 : cX11_whole.data.toList.drop 0 = dktX11_whole_0 := by decide +kernel
theorem dksX11_whole_1 : cX11_whole.data.toList.drop 24 = dktX11_whole_1 := dk_seg dksX11_whole_0 24 rfl rfl
theorem dX11_whole_0 : decode cX11_whole 0 = .ok (.new 129, 3) := dk_187 0 129 (dk_at dksX11_whole_0 0 rfl rfl)
theorem dX11_whole_3 : decode cX11_whole 3 = .ok (.dup, 1) := dk_89 (dk_at dksX11_whole_0 3 rfl rfl)
theorem dX11_whole_4 : decode cX11_whole 4 = .ok (.invokespecial 131, 3) := dk_183 0 131 (dk_at dksX11_whole_0 4 rfl rfl)
theorem dX11_whole_7 : decode cX11_whole 7 = .ok (.astore_n 1, 1) := dk_76 (dk_at dksX11_whole_0 7 rfl rfl)
theorem dX11_whole_8 : decode cX11_whole 8 = .ok (.aload_n 0, 1) := dk_42 (dk_at dksX11_whole_0 8 rfl rfl)
theorem dX11_whole_9 : decode cX11_whole 9 = .ok (.getfield 55, 3) := dk_180 0 55 (dk_at dksX11_whole_0 9 rfl rfl)
theorem dX11_whole_12 : decode cX11_whole 12 = .ok (.getstatic 49, 3) := dk_178 0 49 (dk_at dksX11_whole_0 12 rfl rfl)
theorem dX11_whole_15 : decode cX11_whole 15 = .ok (.if_acmp .eq 17, 3) := dk_165 0 17 (dk_at dksX11_whole_0 15 rfl rfl)
theorem dX11_whole_18 : decode cX11_whole 18 = .ok (.aload_n 0, 1) := dk_42 (dk_at dksX11_whole_0 18 rfl rfl)
theorem dX11_whole_19 : decode cX11_whole 19 = .ok (.aload_n 1, 1) := dk_43 (dk_at dksX11_whole_0 19 rfl rfl)
theorem dX11_whole_20 : decode cX11_whole 20 = .ok (.invokevirtual 132, 3) := dk_182 0 132 (dk_at dksX11_whole_0 20 rfl rfl)
theorem dX11_whole_23 : decode cX11_whole 23 = .ok (.aload_n 0, 1) := dk_42 (dk_at dksX11_whole_0 23 rfl rfl)
theorem dX11_whole_24 : decode cX11_whole 24 = .ok (.ldc 136, 2) := dk_18 136 (dk_at dksX11_whole_1 0 rfl rfl)
theorem dX11_whole_26 : decode cX11_whole 26 = .ok (.invokevirtual 138, 3) := dk_182 0 138 (dk_at dksX11_whole_1 2 rfl rfl)
theorem dX11_whole_29 : decode cX11_whole 29 = .ok (.goto (-21), 3) := dk_167 255 235 (dk_at dksX11_whole_1 5 rfl rfl)
theorem dX11_whole_32 : decode cX11_whole 32 = .ok (.aload_n 1, 1) := dk_43 (dk_at dksX11_whole_1 8 rfl rfl)
theorem dX11_whole_33 : decode cX11_whole 33 = .ok (.areturn, 1) := dk_176 (dk_at dksX11_whole_1 9 rfl rfl)
abbrev cX11_clause : ByteArray := prog_13_method_13_code
def yX11_clause : MethodName := ⟨RX11, "clause", "(LCircuitCells$Line;)V"⟩
def dkwX11_clause_21 : List UInt8 := [42, 3, 4, 182, 0, 119, 177]
abbrev dktX11_clause_21 : List UInt8 := dkwX11_clause_21 ++ []
def dkwX11_clause_20 : List UInt8 := [181, 0, 204, 167, 0, 27, 42, 16, 8, 182, 0, 161, 43, 42, 3, 182, 0, 200, 181, 0, 207, 167, 0, 9]
abbrev dktX11_clause_20 : List UInt8 := dkwX11_clause_20 ++ dktX11_clause_21
def dkwX11_clause_19 : List UInt8 := [180, 0, 55, 178, 0, 88, 165, 255, 198, 167, 0, 45, 42, 16, 7, 182, 0, 161, 43, 42, 3, 182, 0, 200]
abbrev dktX11_clause_19 : List UInt8 := dkwX11_clause_19 ++ dktX11_clause_20
def dkwX11_clause_18 : List UInt8 := [182, 0, 119, 43, 180, 0, 185, 42, 3, 17, 0, 255, 182, 0, 164, 184, 0, 192, 182, 0, 197, 87, 42]
abbrev dktX11_clause_18 : List UInt8 := dkwX11_clause_18 ++ dktX11_clause_19
def dkwX11_clause_17 : List UInt8 := [178, 0, 88, 166, 0, 15, 43, 180, 0, 185, 182, 0, 188, 16, 16, 162, 0, 7, 4, 167, 0, 4, 3, 5]
abbrev dktX11_clause_17 : List UInt8 := dkwX11_clause_17 ++ dktX11_clause_18
def dkwX11_clause_16 : List UInt8 := [4, 16, 8, 182, 0, 164, 181, 0, 183, 167, 0, 115, 42, 16, 6, 182, 0, 161, 42, 42, 180, 0, 55]
abbrev dktX11_clause_16 : List UInt8 := dkwX11_clause_16 ++ dktX11_clause_17
def dkwX11_clause_15 : List UInt8 := [21, 4, 153, 0, 7, 2, 167, 0, 4, 4, 104, 181, 0, 181, 167, 0, 134, 42, 8, 182, 0, 161, 43, 42]
abbrev dktX11_clause_15 : List UInt8 := dkwX11_clause_15 ++ dktX11_clause_16
def dkwX11_clause_14 : List UInt8 := [18, 179, 182, 0, 115, 54, 4, 21, 4, 153, 0, 7, 42, 182, 0, 32, 43, 42, 3, 16, 99, 182, 0, 164]
abbrev dktX11_clause_14 : List UInt8 := dkwX11_clause_14 ++ dktX11_clause_15
def dkwX11_clause_13 : List UInt8 := [182, 0, 161, 43, 42, 4, 16, 16, 182, 0, 164, 181, 0, 177, 167, 0, 181, 42, 7, 182, 0, 161, 42]
abbrev dktX11_clause_13 : List UInt8 := dkwX11_clause_13 ++ dktX11_clause_14
def dkwX11_clause_12 : List UInt8 := [182, 0, 164, 181, 0, 171, 43, 42, 3, 16, 9, 182, 0, 164, 181, 0, 174, 167, 0, 200, 42, 6]
abbrev dktX11_clause_12 : List UInt8 := dkwX11_clause_12 ++ dktX11_clause_13
def dkwX11_clause_11 : List UInt8 := [43, 42, 4, 16, 64, 182, 0, 164, 181, 0, 169, 167, 0, 230, 42, 5, 182, 0, 161, 43, 42, 3, 16, 9]
abbrev dktX11_clause_11 : List UInt8 := dkwX11_clause_11 ++ dktX11_clause_12
def dkwX11_clause_10 : List UInt8 := [42, 3, 182, 0, 161, 43, 42, 4, 16, 8, 182, 0, 164, 181, 0, 168, 167, 0, 249, 42, 4, 182, 0, 161]
abbrev dktX11_clause_10 : List UInt8 := dkwX11_clause_10 ++ dktX11_clause_11
def dkwX11_clause_9 : List UInt8 := [170, 0, 0, 1, 52, 0, 0, 0, 0, 0, 0, 0, 8, 0, 0, 0, 49, 0, 0, 0, 68, 0, 0, 0, 87, 0, 0, 0, 117, 0, 0, 0, 136, 0, 0, 0, 183, 0, 0, 0, 202, 0, 0, 1, 16, 0, 0, 1, 34]
abbrev dktX11_clause_9 : List UInt8 := dkwX11_clause_9 ++ dktX11_clause_10
def dkwX11_clause_8 : List UInt8 := [182, 0, 106, 153, 0, 6, 16, 8, 62, 29]
abbrev dktX11_clause_8 : List UInt8 := dkwX11_clause_8 ++ dktX11_clause_9
def dkwX11_clause_7 : List UInt8 := [62, 167, 0, 30, 44, 18, 157, 182, 0, 106, 153, 0, 21, 16, 7, 62, 167, 0, 15, 44, 18, 159]
abbrev dktX11_clause_7 : List UInt8 := dkwX11_clause_7 ++ dktX11_clause_8
def dkwX11_clause_6 : List UInt8 := [18, 154, 182, 0, 106, 153, 0, 50, 8, 62, 167, 0, 45, 44, 18, 156, 182, 0, 106, 153, 0, 36, 16, 6]
abbrev dktX11_clause_6 : List UInt8 := dkwX11_clause_6 ++ dktX11_clause_7
def dkwX11_clause_5 : List UInt8 := [153, 0, 78, 6, 62, 167, 0, 73, 44, 18, 152, 182, 0, 106, 153, 0, 64, 7, 62, 167, 0, 59, 44]
abbrev dktX11_clause_5 : List UInt8 := dkwX11_clause_5 ++ dktX11_clause_6
def dkwX11_clause_4 : List UInt8 := [62, 167, 0, 101, 44, 18, 148, 182, 0, 106, 153, 0, 92, 5, 62, 167, 0, 87, 44, 18, 150, 182, 0, 106]
abbrev dktX11_clause_4 : List UInt8 := dkwX11_clause_4 ++ dktX11_clause_5
def dkwX11_clause_3 : List UInt8 := [44, 18, 145, 182, 0, 106, 153, 0, 120, 3, 62, 167, 0, 115, 44, 18, 146, 182, 0, 106, 153, 0, 106, 4]
abbrev dktX11_clause_3 : List UInt8 := dkwX11_clause_3 ++ dktX11_clause_4
def dkwX11_clause_2 : List UInt8 := [171, 0, 0, 0, 207, 0, 0, 0, 9, 195, 55, 100, 147, 0, 0, 0, 137, 203, 126, 113, 145, 0, 0, 0, 95, 0, 48, 75, 127, 0, 0, 0, 109, 0, 50, 199, 36, 0, 0, 0, 195, 0, 53, 224, 1, 0, 0, 0, 81, 0, 55, 199, 10, 0, 0, 0, 165, 5, 176, 185, 131, 0, 0, 0, 180, 5, 198, 115, 27, 0, 0, 0, 123, 5, 210, 169, 109, 0, 0, 0, 151]
abbrev dktX11_clause_2 : List UInt8 := dkwX11_clause_2 ++ dktX11_clause_3
def dkwX11_clause_1 : List UInt8 := [77, 2, 62, 44, 182, 0, 142]
abbrev dktX11_clause_1 : List UInt8 := dkwX11_clause_1 ++ dktX11_clause_2
def dkwX11_clause_0 : List UInt8 := [42, 42, 180, 0, 55, 178, 0, 79, 166, 0, 7, 4, 167, 0, 4, 3, 4, 182, 0, 119, 42, 180, 0, 11]
abbrev dktX11_clause_0 : List UInt8 := dkwX11_clause_0 ++ dktX11_clause_1
theorem dksX11_clause_0 : cX11_clause.data.toList.drop 0 = dktX11_clause_0 := by decide +kernel
theorem dksX11_clause_1 : cX11_clause.data.toList.drop 24 = dktX11_clause_1 := dk_seg dksX11_clause_0 24 rfl rfl
theorem dksX11_clause_2 : cX11_clause.data.toList.drop 31 = dktX11_clause_2 := dk_seg dksX11_clause_1 7 rfl rfl
theorem dksX11_clause_3 : cX11_clause.data.toList.drop 112 = dktX11_clause_3 := dk_seg dksX11_clause_2 81 rfl rfl
theorem dksX11_clause_4 : cX11_clause.data.toList.drop 136 = dktX11_clause_4 := dk_seg dksX11_clause_3 24 rfl rfl
theorem dksX11_clause_5 : cX11_clause.data.toList.drop 160 = dktX11_clause_5 := dk_seg dksX11_clause_4 24 rfl rfl
theorem dksX11_clause_6 : cX11_clause.data.toList.drop 183 = dktX11_clause_6 := dk_seg dksX11_clause_5 23 rfl rfl
theorem dksX11_clause_7 : cX11_clause.data.toList.drop 207 = dktX11_clause_7 := dk_seg dksX11_clause_6 24 rfl rfl
theorem dksX11_clause_8 : cX11_clause.data.toList.drop 229 = dktX11_clause_8 := dk_seg dksX11_clause_7 22 rfl rfl
theorem dksX11_clause_9 : cX11_clause.data.toList.drop 239 = dktX11_clause_9 := dk_seg dksX11_clause_8 10 rfl rfl
theorem dksX11_clause_10 : cX11_clause.data.toList.drop 288 = dktX11_clause_10 := dk_seg dksX11_clause_9 49 rfl rfl
theorem dksX11_clause_11 : cX11_clause.data.toList.drop 312 = dktX11_clause_11 := dk_seg dksX11_clause_10 24 rfl rfl
theorem dksX11_clause_12 : cX11_clause.data.toList.drop 336 = dktX11_clause_12 := dk_seg dksX11_clause_11 24 rfl rfl
theorem dksX11_clause_13 : cX11_clause.data.toList.drop 358 = dktX11_clause_13 := dk_seg dksX11_clause_12 22 rfl rfl
theorem dksX11_clause_14 : cX11_clause.data.toList.drop 381 = dktX11_clause_14 := dk_seg dksX11_clause_13 23 rfl rfl
theorem dksX11_clause_15 : cX11_clause.data.toList.drop 405 = dktX11_clause_15 := dk_seg dksX11_clause_14 24 rfl rfl
theorem dksX11_clause_16 : cX11_clause.data.toList.drop 429 = dktX11_clause_16 := dk_seg dksX11_clause_15 24 rfl rfl
theorem dksX11_clause_17 : cX11_clause.data.toList.drop 452 = dktX11_clause_17 := dk_seg dksX11_clause_16 23 rfl rfl
theorem dksX11_clause_18 : cX11_clause.data.toList.drop 476 = dktX11_clause_18 := dk_seg dksX11_clause_17 24 rfl rfl
theorem dksX11_clause_19 : cX11_clause.data.toList.drop 499 = dktX11_clause_19 := dk_seg dksX11_clause_18 23 rfl rfl
theorem dksX11_clause_20 : cX11_clause.data.toList.drop 523 = dktX11_clause_20 := dk_seg dksX11_clause_19 24 rfl rfl
theorem dksX11_clause_21 : cX11_clause.data.toList.drop 547 = dktX11_clause_21 := dk_seg dksX11_clause_20 24 rfl rfl
theorem dX11_clause_0 : decode cX11_clause 0 = .ok (.aload_n 0, 1) := dk_42 (dk_at dksX11_clause_0 0 rfl rfl)
theorem dX11_clause_1 : decode cX11_clause 1 = .ok (.aload_n 0, 1) := dk_42 (dk_at dksX11_clause_0 1 rfl rfl)
theorem dX11_clause_2 : decode cX11_clause 2 = .ok (.getfield 55, 3) := dk_180 0 55 (dk_at dksX11_clause_0 2 rfl rfl)
theorem dX11_clause_5 : decode cX11_clause 5 = .ok (.getstatic 79, 3) := dk_178 0 79 (dk_at dksX11_clause_0 5 rfl rfl)
theorem dX11_clause_8 : decode cX11_clause 8 = .ok (.if_acmp .ne 7, 3) := dk_166 0 7 (dk_at dksX11_clause_0 8 rfl rfl)
theorem dX11_clause_11 : decode cX11_clause 11 = .ok (.iconst 1, 1) := dk_4 (dk_at dksX11_clause_0 11 rfl rfl)
theorem dX11_clause_12 : decode cX11_clause 12 = .ok (.goto 4, 3) := dk_167 0 4 (dk_at dksX11_clause_0 12 rfl rfl)
theorem dX11_clause_15 : decode cX11_clause 15 = .ok (.iconst 0, 1) := dk_3 (dk_at dksX11_clause_0 15 rfl rfl)
theorem dX11_clause_16 : decode cX11_clause 16 = .ok (.iconst 1, 1) := dk_4 (dk_at dksX11_clause_0 16 rfl rfl)
theorem dX11_clause_17 : decode cX11_clause 17 = .ok (.invokevirtual 119, 3) := dk_182 0 119 (dk_at dksX11_clause_0 17 rfl rfl)
theorem dX11_clause_20 : decode cX11_clause 20 = .ok (.aload_n 0, 1) := dk_42 (dk_at dksX11_clause_0 20 rfl rfl)
theorem dX11_clause_21 : decode cX11_clause 21 = .ok (.getfield 11, 3) := dk_180 0 11 (dk_at dksX11_clause_0 21 rfl rfl)
theorem dX11_clause_24 : decode cX11_clause 24 = .ok (.astore_n 2, 1) := dk_77 (dk_at dksX11_clause_1 0 rfl rfl)
theorem dX11_clause_25 : decode cX11_clause 25 = .ok (.iconst (-1), 1) := dk_2 (dk_at dksX11_clause_1 1 rfl rfl)
theorem dX11_clause_26 : decode cX11_clause 26 = .ok (.istore_n 3, 1) := dk_62 (dk_at dksX11_clause_1 2 rfl rfl)
theorem dX11_clause_27 : decode cX11_clause 27 = .ok (.aload_n 2, 1) := dk_44 (dk_at dksX11_clause_1 3 rfl rfl)
theorem dX11_clause_28 : decode cX11_clause 28 = .ok (.invokevirtual 142, 3) := dk_182 0 142 (dk_at dksX11_clause_1 4 rfl rfl)
theorem dX11_clause_31 : decode cX11_clause 31 = .ok (.lookupswitch 207 #[(-1019779949, 137), (-880905839, 95), (3165055, 109), (3327780, 195), (3530753, 81), (3655434, 165), (95467907, 180), (96891675, 123), (97692013, 151)], 81) := by decide +kernel
theorem dX11_clause_112 : decode cX11_clause 112 = .ok (.aload_n 2, 1) := dk_44 (dk_at dksX11_clause_3 0 rfl rfl)
theorem dX11_clause_113 : decode cX11_clause 113 = .ok (.ldc 145, 2) := dk_18 145 (dk_at dksX11_clause_3 1 rfl rfl)
theorem dX11_clause_115 : decode cX11_clause 115 = .ok (.invokevirtual 106, 3) := dk_182 0 106 (dk_at dksX11_clause_3 3 rfl rfl)
theorem dX11_clause_118 : decode cX11_clause 118 = .ok (.ifCond .eq 120, 3) := dk_153 0 120 (dk_at dksX11_clause_3 6 rfl rfl)
theorem dX11_clause_121 : decode cX11_clause 121 = .ok (.iconst 0, 1) := dk_3 (dk_at dksX11_clause_3 9 rfl rfl)
theorem dX11_clause_122 : decode cX11_clause 122 = .ok (.istore_n 3, 1) := dk_62 (dk_at dksX11_clause_3 10 rfl rfl)
theorem dX11_clause_123 : decode cX11_clause 123 = .ok (.goto 115, 3) := dk_167 0 115 (dk_at dksX11_clause_3 11 rfl rfl)
theorem dX11_clause_126 : decode cX11_clause 126 = .ok (.aload_n 2, 1) := dk_44 (dk_at dksX11_clause_3 14 rfl rfl)
theorem dX11_clause_127 : decode cX11_clause 127 = .ok (.ldc 146, 2) := dk_18 146 (dk_at dksX11_clause_3 15 rfl rfl)
theorem dX11_clause_129 : decode cX11_clause 129 = .ok (.invokevirtual 106, 3) := dk_182 0 106 (dk_at dksX11_clause_3 17 rfl rfl)
theorem dX11_clause_132 : decode cX11_clause 132 = .ok (.ifCond .eq 106, 3) := dk_153 0 106 (dk_at dksX11_clause_3 20 rfl rfl)
theorem dX11_clause_135 : decode cX11_clause 135 = .ok (.iconst 1, 1) := dk_4 (dk_at dksX11_clause_3 23 rfl rfl)
theorem dX11_clause_136 : decode cX11_clause 136 = .ok (.istore_n 3, 1) := dk_62 (dk_at dksX11_clause_4 0 rfl rfl)
theorem dX11_clause_137 : decode cX11_clause 137 = .ok (.goto 101, 3) := dk_167 0 101 (dk_at dksX11_clause_4 1 rfl rfl)
theorem dX11_clause_140 : decode cX11_clause 140 = .ok (.aload_n 2, 1) := dk_44 (dk_at dksX11_clause_4 4 rfl rfl)
theorem dX11_clause_141 : decode cX11_clause 141 = .ok (.ldc 148, 2) := dk_18 148 (dk_at dksX11_clause_4 5 rfl rfl)
theorem dX11_clause_143 : decode cX11_clause 143 = .ok (.invokevirtual 106, 3) := dk_182 0 106 (dk_at dksX11_clause_4 7 rfl rfl)
theorem dX11_clause_146 : decode cX11_clause 146 = .ok (.ifCond .eq 92, 3) := dk_153 0 92 (dk_at dksX11_clause_4 10 rfl rfl)
theorem dX11_clause_149 : decode cX11_clause 149 = .ok (.iconst 2, 1) := dk_5 (dk_at dksX11_clause_4 13 rfl rfl)
theorem dX11_clause_150 : decode cX11_clause 150 = .ok (.istore_n 3, 1) := dk_62 (dk_at dksX11_clause_4 14 rfl rfl)
theorem dX11_clause_151 : decode cX11_clause 151 = .ok (.goto 87, 3) := dk_167 0 87 (dk_at dksX11_clause_4 15 rfl rfl)
theorem dX11_clause_154 : decode cX11_clause 154 = .ok (.aload_n 2, 1) := dk_44 (dk_at dksX11_clause_4 18 rfl rfl)
theorem dX11_clause_155 : decode cX11_clause 155 = .ok (.ldc 150, 2) := dk_18 150 (dk_at dksX11_clause_4 19 rfl rfl)
theorem dX11_clause_157 : decode cX11_clause 157 = .ok (.invokevirtual 106, 3) := dk_182 0 106 (dk_at dksX11_clause_4 21 rfl rfl)
theorem dX11_clause_160 : decode cX11_clause 160 = .ok (.ifCond .eq 78, 3) := dk_153 0 78 (dk_at dksX11_clause_5 0 rfl rfl)
theorem dX11_clause_163 : decode cX11_clause 163 = .ok (.iconst 3, 1) := dk_6 (dk_at dksX11_clause_5 3 rfl rfl)
theorem dX11_clause_164 : decode cX11_clause 164 = .ok (.istore_n 3, 1) := dk_62 (dk_at dksX11_clause_5 4 rfl rfl)
theorem dX11_clause_165 : decode cX11_clause 165 = .ok (.goto 73, 3) := dk_167 0 73 (dk_at dksX11_clause_5 5 rfl rfl)
theorem dX11_clause_168 : decode cX11_clause 168 = .ok (.aload_n 2, 1) := dk_44 (dk_at dksX11_clause_5 8 rfl rfl)
theorem dX11_clause_169 : decode cX11_clause 169 = .ok (.ldc 152, 2) := dk_18 152 (dk_at dksX11_clause_5 9 rfl rfl)
theorem dX11_clause_171 : decode cX11_clause 171 = .ok (.invokevirtual 106, 3) := dk_182 0 106 (dk_at dksX11_clause_5 11 rfl rfl)
theorem dX11_clause_174 : decode cX11_clause 174 = .ok (.ifCond .eq 64, 3) := dk_153 0 64 (dk_at dksX11_clause_5 14 rfl rfl)
theorem dX11_clause_177 : decode cX11_clause 177 = .ok (.iconst 4, 1) := dk_7 (dk_at dksX11_clause_5 17 rfl rfl)
theorem dX11_clause_178 : decode cX11_clause 178 = .ok (.istore_n 3, 1) := dk_62 (dk_at dksX11_clause_5 18 rfl rfl)
theorem dX11_clause_179 : decode cX11_clause 179 = .ok (.goto 59, 3) := dk_167 0 59 (dk_at dksX11_clause_5 19 rfl rfl)
theorem dX11_clause_182 : decode cX11_clause 182 = .ok (.aload_n 2, 1) := dk_44 (dk_at dksX11_clause_5 22 rfl rfl)
theorem dX11_clause_183 : decode cX11_clause 183 = .ok (.ldc 154, 2) := dk_18 154 (dk_at dksX11_clause_6 0 rfl rfl)
theorem dX11_clause_185 : decode cX11_clause 185 = .ok (.invokevirtual 106, 3) := dk_182 0 106 (dk_at dksX11_clause_6 2 rfl rfl)
theorem dX11_clause_188 : decode cX11_clause 188 = .ok (.ifCond .eq 50, 3) := dk_153 0 50 (dk_at dksX11_clause_6 5 rfl rfl)
theorem dX11_clause_191 : decode cX11_clause 191 = .ok (.iconst 5, 1) := dk_8 (dk_at dksX11_clause_6 8 rfl rfl)
theorem dX11_clause_192 : decode cX11_clause 192 = .ok (.istore_n 3, 1) := dk_62 (dk_at dksX11_clause_6 9 rfl rfl)
theorem dX11_clause_193 : decode cX11_clause 193 = .ok (.goto 45, 3) := dk_167 0 45 (dk_at dksX11_clause_6 10 rfl rfl)
theorem dX11_clause_196 : decode cX11_clause 196 = .ok (.aload_n 2, 1) := dk_44 (dk_at dksX11_clause_6 13 rfl rfl)
theorem dX11_clause_197 : decode cX11_clause 197 = .ok (.ldc 156, 2) := dk_18 156 (dk_at dksX11_clause_6 14 rfl rfl)
theorem dX11_clause_199 : decode cX11_clause 199 = .ok (.invokevirtual 106, 3) := dk_182 0 106 (dk_at dksX11_clause_6 16 rfl rfl)
theorem dX11_clause_202 : decode cX11_clause 202 = .ok (.ifCond .eq 36, 3) := dk_153 0 36 (dk_at dksX11_clause_6 19 rfl rfl)
theorem dX11_clause_205 : decode cX11_clause 205 = .ok (.bipush 6, 2) := dk_16 6 (dk_at dksX11_clause_6 22 rfl rfl)
theorem dX11_clause_207 : decode cX11_clause 207 = .ok (.istore_n 3, 1) := dk_62 (dk_at dksX11_clause_7 0 rfl rfl)
theorem dX11_clause_208 : decode cX11_clause 208 = .ok (.goto 30, 3) := dk_167 0 30 (dk_at dksX11_clause_7 1 rfl rfl)
theorem dX11_clause_211 : decode cX11_clause 211 = .ok (.aload_n 2, 1) := dk_44 (dk_at dksX11_clause_7 4 rfl rfl)
theorem dX11_clause_212 : decode cX11_clause 212 = .ok (.ldc 157, 2) := dk_18 157 (dk_at dksX11_clause_7 5 rfl rfl)
theorem dX11_clause_214 : decode cX11_clause 214 = .ok (.invokevirtual 106, 3) := dk_182 0 106 (dk_at dksX11_clause_7 7 rfl rfl)
theorem dX11_clause_217 : decode cX11_clause 217 = .ok (.ifCond .eq 21, 3) := dk_153 0 21 (dk_at dksX11_clause_7 10 rfl rfl)
theorem dX11_clause_220 : decode cX11_clause 220 = .ok (.bipush 7, 2) := dk_16 7 (dk_at dksX11_clause_7 13 rfl rfl)
theorem dX11_clause_222 : decode cX11_clause 222 = .ok (.istore_n 3, 1) := dk_62 (dk_at dksX11_clause_7 15 rfl rfl)
theorem dX11_clause_223 : decode cX11_clause 223 = .ok (.goto 15, 3) := dk_167 0 15 (dk_at dksX11_clause_7 16 rfl rfl)
theorem dX11_clause_226 : decode cX11_clause 226 = .ok (.aload_n 2, 1) := dk_44 (dk_at dksX11_clause_7 19 rfl rfl)
theorem dX11_clause_227 : decode cX11_clause 227 = .ok (.ldc 159, 2) := dk_18 159 (dk_at dksX11_clause_7 20 rfl rfl)
theorem dX11_clause_229 : decode cX11_clause 229 = .ok (.invokevirtual 106, 3) := dk_182 0 106 (dk_at dksX11_clause_8 0 rfl rfl)
theorem dX11_clause_232 : decode cX11_clause 232 = .ok (.ifCond .eq 6, 3) := dk_153 0 6 (dk_at dksX11_clause_8 3 rfl rfl)
theorem dX11_clause_235 : decode cX11_clause 235 = .ok (.bipush 8, 2) := dk_16 8 (dk_at dksX11_clause_8 6 rfl rfl)
theorem dX11_clause_237 : decode cX11_clause 237 = .ok (.istore_n 3, 1) := dk_62 (dk_at dksX11_clause_8 8 rfl rfl)
theorem dX11_clause_238 : decode cX11_clause 238 = .ok (.iload_n 3, 1) := dk_29 (dk_at dksX11_clause_8 9 rfl rfl)
theorem dX11_clause_239 : decode cX11_clause 239 = .ok (.tableswitch 308 0 8 #[49, 68, 87, 117, 136, 183, 202, 272, 290], 49) := by decide +kernel
theorem dX11_clause_288 : decode cX11_clause 288 = .ok (.aload_n 0, 1) := dk_42 (dk_at dksX11_clause_10 0 rfl rfl)
theorem dX11_clause_289 : decode cX11_clause 289 = .ok (.iconst 0, 1) := dk_3 (dk_at dksX11_clause_10 1 rfl rfl)
theorem dX11_clause_290 : decode cX11_clause 290 = .ok (.invokevirtual 161, 3) := dk_182 0 161 (dk_at dksX11_clause_10 2 rfl rfl)
theorem dX11_clause_293 : decode cX11_clause 293 = .ok (.aload_n 1, 1) := dk_43 (dk_at dksX11_clause_10 5 rfl rfl)
theorem dX11_clause_294 : decode cX11_clause 294 = .ok (.aload_n 0, 1) := dk_42 (dk_at dksX11_clause_10 6 rfl rfl)
theorem dX11_clause_295 : decode cX11_clause 295 = .ok (.iconst 1, 1) := dk_4 (dk_at dksX11_clause_10 7 rfl rfl)
theorem dX11_clause_296 : decode cX11_clause 296 = .ok (.bipush 8, 2) := dk_16 8 (dk_at dksX11_clause_10 8 rfl rfl)
theorem dX11_clause_298 : decode cX11_clause 298 = .ok (.invokevirtual 164, 3) := dk_182 0 164 (dk_at dksX11_clause_10 10 rfl rfl)
theorem dX11_clause_301 : decode cX11_clause 301 = .ok (.putfield 168, 3) := dk_181 0 168 (dk_at dksX11_clause_10 13 rfl rfl)
theorem dX11_clause_304 : decode cX11_clause 304 = .ok (.goto 249, 3) := dk_167 0 249 (dk_at dksX11_clause_10 16 rfl rfl)
theorem dX11_clause_307 : decode cX11_clause 307 = .ok (.aload_n 0, 1) := dk_42 (dk_at dksX11_clause_10 19 rfl rfl)
theorem dX11_clause_308 : decode cX11_clause 308 = .ok (.iconst 1, 1) := dk_4 (dk_at dksX11_clause_10 20 rfl rfl)
theorem dX11_clause_309 : decode cX11_clause 309 = .ok (.invokevirtual 161, 3) := dk_182 0 161 (dk_at dksX11_clause_10 21 rfl rfl)
theorem dX11_clause_312 : decode cX11_clause 312 = .ok (.aload_n 1, 1) := dk_43 (dk_at dksX11_clause_11 0 rfl rfl)
theorem dX11_clause_313 : decode cX11_clause 313 = .ok (.aload_n 0, 1) := dk_42 (dk_at dksX11_clause_11 1 rfl rfl)
theorem dX11_clause_314 : decode cX11_clause 314 = .ok (.iconst 1, 1) := dk_4 (dk_at dksX11_clause_11 2 rfl rfl)
theorem dX11_clause_315 : decode cX11_clause 315 = .ok (.bipush 64, 2) := dk_16 64 (dk_at dksX11_clause_11 3 rfl rfl)
theorem dX11_clause_317 : decode cX11_clause 317 = .ok (.invokevirtual 164, 3) := dk_182 0 164 (dk_at dksX11_clause_11 5 rfl rfl)
theorem dX11_clause_320 : decode cX11_clause 320 = .ok (.putfield 169, 3) := dk_181 0 169 (dk_at dksX11_clause_11 8 rfl rfl)
theorem dX11_clause_323 : decode cX11_clause 323 = .ok (.goto 230, 3) := dk_167 0 230 (dk_at dksX11_clause_11 11 rfl rfl)
theorem dX11_clause_326 : decode cX11_clause 326 = .ok (.aload_n 0, 1) := dk_42 (dk_at dksX11_clause_11 14 rfl rfl)
theorem dX11_clause_327 : decode cX11_clause 327 = .ok (.iconst 2, 1) := dk_5 (dk_at dksX11_clause_11 15 rfl rfl)
theorem dX11_clause_328 : decode cX11_clause 328 = .ok (.invokevirtual 161, 3) := dk_182 0 161 (dk_at dksX11_clause_11 16 rfl rfl)
theorem dX11_clause_331 : decode cX11_clause 331 = .ok (.aload_n 1, 1) := dk_43 (dk_at dksX11_clause_11 19 rfl rfl)
theorem dX11_clause_332 : decode cX11_clause 332 = .ok (.aload_n 0, 1) := dk_42 (dk_at dksX11_clause_11 20 rfl rfl)
theorem dX11_clause_333 : decode cX11_clause 333 = .ok (.iconst 0, 1) := dk_3 (dk_at dksX11_clause_11 21 rfl rfl)
theorem dX11_clause_334 : decode cX11_clause 334 = .ok (.bipush 9, 2) := dk_16 9 (dk_at dksX11_clause_11 22 rfl rfl)
theorem dX11_clause_336 : decode cX11_clause 336 = .ok (.invokevirtual 164, 3) := dk_182 0 164 (dk_at dksX11_clause_12 0 rfl rfl)
theorem dX11_clause_339 : decode cX11_clause 339 = .ok (.putfield 171, 3) := dk_181 0 171 (dk_at dksX11_clause_12 3 rfl rfl)
theorem dX11_clause_342 : decode cX11_clause 342 = .ok (.aload_n 1, 1) := dk_43 (dk_at dksX11_clause_12 6 rfl rfl)
theorem dX11_clause_343 : decode cX11_clause 343 = .ok (.aload_n 0, 1) := dk_42 (dk_at dksX11_clause_12 7 rfl rfl)
theorem dX11_clause_344 : decode cX11_clause 344 = .ok (.iconst 0, 1) := dk_3 (dk_at dksX11_clause_12 8 rfl rfl)
theorem dX11_clause_345 : decode cX11_clause 345 = .ok (.bipush 9, 2) := dk_16 9 (dk_at dksX11_clause_12 9 rfl rfl)
theorem dX11_clause_347 : decode cX11_clause 347 = .ok (.invokevirtual 164, 3) := dk_182 0 164 (dk_at dksX11_clause_12 11 rfl rfl)
theorem dX11_clause_350 : decode cX11_clause 350 = .ok (.putfield 174, 3) := dk_181 0 174 (dk_at dksX11_clause_12 14 rfl rfl)
theorem dX11_clause_353 : decode cX11_clause 353 = .ok (.goto 200, 3) := dk_167 0 200 (dk_at dksX11_clause_12 17 rfl rfl)
theorem dX11_clause_356 : decode cX11_clause 356 = .ok (.aload_n 0, 1) := dk_42 (dk_at dksX11_clause_12 20 rfl rfl)
theorem dX11_clause_357 : decode cX11_clause 357 = .ok (.iconst 3, 1) := dk_6 (dk_at dksX11_clause_12 21 rfl rfl)
theorem dX11_clause_358 : decode cX11_clause 358 = .ok (.invokevirtual 161, 3) := dk_182 0 161 (dk_at dksX11_clause_13 0 rfl rfl)
theorem dX11_clause_361 : decode cX11_clause 361 = .ok (.aload_n 1, 1) := dk_43 (dk_at dksX11_clause_13 3 rfl rfl)
theorem dX11_clause_362 : decode cX11_clause 362 = .ok (.aload_n 0, 1) := dk_42 (dk_at dksX11_clause_13 4 rfl rfl)
theorem dX11_clause_363 : decode cX11_clause 363 = .ok (.iconst 1, 1) := dk_4 (dk_at dksX11_clause_13 5 rfl rfl)
theorem dX11_clause_364 : decode cX11_clause 364 = .ok (.bipush 16, 2) := dk_16 16 (dk_at dksX11_clause_13 6 rfl rfl)
theorem dX11_clause_366 : decode cX11_clause 366 = .ok (.invokevirtual 164, 3) := dk_182 0 164 (dk_at dksX11_clause_13 8 rfl rfl)
theorem dX11_clause_369 : decode cX11_clause 369 = .ok (.putfield 177, 3) := dk_181 0 177 (dk_at dksX11_clause_13 11 rfl rfl)
theorem dX11_clause_372 : decode cX11_clause 372 = .ok (.goto 181, 3) := dk_167 0 181 (dk_at dksX11_clause_13 14 rfl rfl)
theorem dX11_clause_375 : decode cX11_clause 375 = .ok (.aload_n 0, 1) := dk_42 (dk_at dksX11_clause_13 17 rfl rfl)
theorem dX11_clause_376 : decode cX11_clause 376 = .ok (.iconst 4, 1) := dk_7 (dk_at dksX11_clause_13 18 rfl rfl)
theorem dX11_clause_377 : decode cX11_clause 377 = .ok (.invokevirtual 161, 3) := dk_182 0 161 (dk_at dksX11_clause_13 19 rfl rfl)
theorem dX11_clause_380 : decode cX11_clause 380 = .ok (.aload_n 0, 1) := dk_42 (dk_at dksX11_clause_13 22 rfl rfl)
theorem dX11_clause_381 : decode cX11_clause 381 = .ok (.ldc 179, 2) := dk_18 179 (dk_at dksX11_clause_14 0 rfl rfl)
theorem dX11_clause_383 : decode cX11_clause 383 = .ok (.invokevirtual 115, 3) := dk_182 0 115 (dk_at dksX11_clause_14 2 rfl rfl)
theorem dX11_clause_386 : decode cX11_clause 386 = .ok (.istore 4, 2) := dk_54 4 (dk_at dksX11_clause_14 5 rfl rfl)
theorem dX11_clause_388 : decode cX11_clause 388 = .ok (.iload 4, 2) := dk_21 4 (dk_at dksX11_clause_14 7 rfl rfl)
theorem dX11_clause_390 : decode cX11_clause 390 = .ok (.ifCond .eq 7, 3) := dk_153 0 7 (dk_at dksX11_clause_14 9 rfl rfl)
theorem dX11_clause_393 : decode cX11_clause 393 = .ok (.aload_n 0, 1) := dk_42 (dk_at dksX11_clause_14 12 rfl rfl)
theorem dX11_clause_394 : decode cX11_clause 394 = .ok (.invokevirtual 32, 3) := dk_182 0 32 (dk_at dksX11_clause_14 13 rfl rfl)
theorem dX11_clause_397 : decode cX11_clause 397 = .ok (.aload_n 1, 1) := dk_43 (dk_at dksX11_clause_14 16 rfl rfl)
theorem dX11_clause_398 : decode cX11_clause 398 = .ok (.aload_n 0, 1) := dk_42 (dk_at dksX11_clause_14 17 rfl rfl)
theorem dX11_clause_399 : decode cX11_clause 399 = .ok (.iconst 0, 1) := dk_3 (dk_at dksX11_clause_14 18 rfl rfl)
theorem dX11_clause_400 : decode cX11_clause 400 = .ok (.bipush 99, 2) := dk_16 99 (dk_at dksX11_clause_14 19 rfl rfl)
theorem dX11_clause_402 : decode cX11_clause 402 = .ok (.invokevirtual 164, 3) := dk_182 0 164 (dk_at dksX11_clause_14 21 rfl rfl)
theorem dX11_clause_405 : decode cX11_clause 405 = .ok (.iload 4, 2) := dk_21 4 (dk_at dksX11_clause_15 0 rfl rfl)
theorem dX11_clause_407 : decode cX11_clause 407 = .ok (.ifCond .eq 7, 3) := dk_153 0 7 (dk_at dksX11_clause_15 2 rfl rfl)
theorem dX11_clause_410 : decode cX11_clause 410 = .ok (.iconst (-1), 1) := dk_2 (dk_at dksX11_clause_15 5 rfl rfl)
theorem dX11_clause_411 : decode cX11_clause 411 = .ok (.goto 4, 3) := dk_167 0 4 (dk_at dksX11_clause_15 6 rfl rfl)
theorem dX11_clause_414 : decode cX11_clause 414 = .ok (.iconst 1, 1) := dk_4 (dk_at dksX11_clause_15 9 rfl rfl)
theorem dX11_clause_415 : decode cX11_clause 415 = .ok (.imul, 1) := dk_104 (dk_at dksX11_clause_15 10 rfl rfl)
theorem dX11_clause_416 : decode cX11_clause 416 = .ok (.putfield 181, 3) := dk_181 0 181 (dk_at dksX11_clause_15 11 rfl rfl)
theorem dX11_clause_419 : decode cX11_clause 419 = .ok (.goto 134, 3) := dk_167 0 134 (dk_at dksX11_clause_15 14 rfl rfl)
theorem dX11_clause_422 : decode cX11_clause 422 = .ok (.aload_n 0, 1) := dk_42 (dk_at dksX11_clause_15 17 rfl rfl)
theorem dX11_clause_423 : decode cX11_clause 423 = .ok (.iconst 5, 1) := dk_8 (dk_at dksX11_clause_15 18 rfl rfl)
theorem dX11_clause_424 : decode cX11_clause 424 = .ok (.invokevirtual 161, 3) := dk_182 0 161 (dk_at dksX11_clause_15 19 rfl rfl)
theorem dX11_clause_427 : decode cX11_clause 427 = .ok (.aload_n 1, 1) := dk_43 (dk_at dksX11_clause_15 22 rfl rfl)
theorem dX11_clause_428 : decode cX11_clause 428 = .ok (.aload_n 0, 1) := dk_42 (dk_at dksX11_clause_15 23 rfl rfl)
theorem dX11_clause_429 : decode cX11_clause 429 = .ok (.iconst 1, 1) := dk_4 (dk_at dksX11_clause_16 0 rfl rfl)
theorem dX11_clause_430 : decode cX11_clause 430 = .ok (.bipush 8, 2) := dk_16 8 (dk_at dksX11_clause_16 1 rfl rfl)
theorem dX11_clause_432 : decode cX11_clause 432 = .ok (.invokevirtual 164, 3) := dk_182 0 164 (dk_at dksX11_clause_16 3 rfl rfl)
theorem dX11_clause_435 : decode cX11_clause 435 = .ok (.putfield 183, 3) := dk_181 0 183 (dk_at dksX11_clause_16 6 rfl rfl)
theorem dX11_clause_438 : decode cX11_clause 438 = .ok (.goto 115, 3) := dk_167 0 115 (dk_at dksX11_clause_16 9 rfl rfl)
theorem dX11_clause_441 : decode cX11_clause 441 = .ok (.aload_n 0, 1) := dk_42 (dk_at dksX11_clause_16 12 rfl rfl)
theorem dX11_clause_442 : decode cX11_clause 442 = .ok (.bipush 6, 2) := dk_16 6 (dk_at dksX11_clause_16 13 rfl rfl)
theorem dX11_clause_444 : decode cX11_clause 444 = .ok (.invokevirtual 161, 3) := dk_182 0 161 (dk_at dksX11_clause_16 15 rfl rfl)
theorem dX11_clause_447 : decode cX11_clause 447 = .ok (.aload_n 0, 1) := dk_42 (dk_at dksX11_clause_16 18 rfl rfl)
theorem dX11_clause_448 : decode cX11_clause 448 = .ok (.aload_n 0, 1) := dk_42 (dk_at dksX11_clause_16 19 rfl rfl)
theorem dX11_clause_449 : decode cX11_clause 449 = .ok (.getfield 55, 3) := dk_180 0 55 (dk_at dksX11_clause_16 20 rfl rfl)
theorem dX11_clause_452 : decode cX11_clause 452 = .ok (.getstatic 88, 3) := dk_178 0 88 (dk_at dksX11_clause_17 0 rfl rfl)
theorem dX11_clause_455 : decode cX11_clause 455 = .ok (.if_acmp .ne 15, 3) := dk_166 0 15 (dk_at dksX11_clause_17 3 rfl rfl)
theorem dX11_clause_458 : decode cX11_clause 458 = .ok (.aload_n 1, 1) := dk_43 (dk_at dksX11_clause_17 6 rfl rfl)
theorem dX11_clause_459 : decode cX11_clause 459 = .ok (.getfield 185, 3) := dk_180 0 185 (dk_at dksX11_clause_17 7 rfl rfl)
theorem dX11_clause_462 : decode cX11_clause 462 = .ok (.invokevirtual 188, 3) := dk_182 0 188 (dk_at dksX11_clause_17 10 rfl rfl)
theorem dX11_clause_465 : decode cX11_clause 465 = .ok (.bipush 16, 2) := dk_16 16 (dk_at dksX11_clause_17 13 rfl rfl)
theorem dX11_clause_467 : decode cX11_clause 467 = .ok (.if_icmp .ge 7, 3) := dk_162 0 7 (dk_at dksX11_clause_17 15 rfl rfl)
theorem dX11_clause_470 : decode cX11_clause 470 = .ok (.iconst 1, 1) := dk_4 (dk_at dksX11_clause_17 18 rfl rfl)
theorem dX11_clause_471 : decode cX11_clause 471 = .ok (.goto 4, 3) := dk_167 0 4 (dk_at dksX11_clause_17 19 rfl rfl)
theorem dX11_clause_474 : decode cX11_clause 474 = .ok (.iconst 0, 1) := dk_3 (dk_at dksX11_clause_17 22 rfl rfl)
theorem dX11_clause_475 : decode cX11_clause 475 = .ok (.iconst 2, 1) := dk_5 (dk_at dksX11_clause_17 23 rfl rfl)
theorem dX11_clause_476 : decode cX11_clause 476 = .ok (.invokevirtual 119, 3) := dk_182 0 119 (dk_at dksX11_clause_18 0 rfl rfl)
theorem dX11_clause_479 : decode cX11_clause 479 = .ok (.aload_n 1, 1) := dk_43 (dk_at dksX11_clause_18 3 rfl rfl)
theorem dX11_clause_480 : decode cX11_clause 480 = .ok (.getfield 185, 3) := dk_180 0 185 (dk_at dksX11_clause_18 4 rfl rfl)
theorem dX11_clause_483 : decode cX11_clause 483 = .ok (.aload_n 0, 1) := dk_42 (dk_at dksX11_clause_18 7 rfl rfl)
theorem dX11_clause_484 : decode cX11_clause 484 = .ok (.iconst 0, 1) := dk_3 (dk_at dksX11_clause_18 8 rfl rfl)
theorem dX11_clause_485 : decode cX11_clause 485 = .ok (.sipush 255, 3) := dk_17 0 255 (dk_at dksX11_clause_18 9 rfl rfl)
theorem dX11_clause_488 : decode cX11_clause 488 = .ok (.invokevirtual 164, 3) := dk_182 0 164 (dk_at dksX11_clause_18 12 rfl rfl)
theorem dX11_clause_491 : decode cX11_clause 491 = .ok (.invokestatic 192, 3) := dk_184 0 192 (dk_at dksX11_clause_18 15 rfl rfl)
theorem dX11_clause_494 : decode cX11_clause 494 = .ok (.invokevirtual 197, 3) := dk_182 0 197 (dk_at dksX11_clause_18 18 rfl rfl)
theorem dX11_clause_497 : decode cX11_clause 497 = .ok (.pop, 1) := dk_87 (dk_at dksX11_clause_18 21 rfl rfl)
theorem dX11_clause_498 : decode cX11_clause 498 = .ok (.aload_n 0, 1) := dk_42 (dk_at dksX11_clause_18 22 rfl rfl)
theorem dX11_clause_499 : decode cX11_clause 499 = .ok (.getfield 55, 3) := dk_180 0 55 (dk_at dksX11_clause_19 0 rfl rfl)
theorem dX11_clause_502 : decode cX11_clause 502 = .ok (.getstatic 88, 3) := dk_178 0 88 (dk_at dksX11_clause_19 3 rfl rfl)
theorem dX11_clause_505 : decode cX11_clause 505 = .ok (.if_acmp .eq (-58), 3) := dk_165 255 198 (dk_at dksX11_clause_19 6 rfl rfl)
theorem dX11_clause_508 : decode cX11_clause 508 = .ok (.goto 45, 3) := dk_167 0 45 (dk_at dksX11_clause_19 9 rfl rfl)
theorem dX11_clause_511 : decode cX11_clause 511 = .ok (.aload_n 0, 1) := dk_42 (dk_at dksX11_clause_19 12 rfl rfl)
theorem dX11_clause_512 : decode cX11_clause 512 = .ok (.bipush 7, 2) := dk_16 7 (dk_at dksX11_clause_19 13 rfl rfl)
theorem dX11_clause_514 : decode cX11_clause 514 = .ok (.invokevirtual 161, 3) := dk_182 0 161 (dk_at dksX11_clause_19 15 rfl rfl)
theorem dX11_clause_517 : decode cX11_clause 517 = .ok (.aload_n 1, 1) := dk_43 (dk_at dksX11_clause_19 18 rfl rfl)
theorem dX11_clause_518 : decode cX11_clause 518 = .ok (.aload_n 0, 1) := dk_42 (dk_at dksX11_clause_19 19 rfl rfl)
theorem dX11_clause_519 : decode cX11_clause 519 = .ok (.iconst 0, 1) := dk_3 (dk_at dksX11_clause_19 20 rfl rfl)
theorem dX11_clause_520 : decode cX11_clause 520 = .ok (.invokevirtual 200, 3) := dk_182 0 200 (dk_at dksX11_clause_19 21 rfl rfl)
theorem dX11_clause_523 : decode cX11_clause 523 = .ok (.putfield 204, 3) := dk_181 0 204 (dk_at dksX11_clause_20 0 rfl rfl)
theorem dX11_clause_526 : decode cX11_clause 526 = .ok (.goto 27, 3) := dk_167 0 27 (dk_at dksX11_clause_20 3 rfl rfl)
theorem dX11_clause_529 : decode cX11_clause 529 = .ok (.aload_n 0, 1) := dk_42 (dk_at dksX11_clause_20 6 rfl rfl)
theorem dX11_clause_530 : decode cX11_clause 530 = .ok (.bipush 8, 2) := dk_16 8 (dk_at dksX11_clause_20 7 rfl rfl)
theorem dX11_clause_532 : decode cX11_clause 532 = .ok (.invokevirtual 161, 3) := dk_182 0 161 (dk_at dksX11_clause_20 9 rfl rfl)
theorem dX11_clause_535 : decode cX11_clause 535 = .ok (.aload_n 1, 1) := dk_43 (dk_at dksX11_clause_20 12 rfl rfl)
theorem dX11_clause_536 : decode cX11_clause 536 = .ok (.aload_n 0, 1) := dk_42 (dk_at dksX11_clause_20 13 rfl rfl)
theorem dX11_clause_537 : decode cX11_clause 537 = .ok (.iconst 0, 1) := dk_3 (dk_at dksX11_clause_20 14 rfl rfl)
theorem dX11_clause_538 : decode cX11_clause 538 = .ok (.invokevirtual 200, 3) := dk_182 0 200 (dk_at dksX11_clause_20 15 rfl rfl)
theorem dX11_clause_541 : decode cX11_clause 541 = .ok (.putfield 207, 3) := dk_181 0 207 (dk_at dksX11_clause_20 18 rfl rfl)
theorem dX11_clause_544 : decode cX11_clause 544 = .ok (.goto 9, 3) := dk_167 0 9 (dk_at dksX11_clause_20 21 rfl rfl)
theorem dX11_clause_547 : decode cX11_clause 547 = .ok (.aload_n 0, 1) := dk_42 (dk_at dksX11_clause_21 0 rfl rfl)
theorem dX11_clause_548 : decode cX11_clause 548 = .ok (.iconst 0, 1) := dk_3 (dk_at dksX11_clause_21 1 rfl rfl)
theorem dX11_clause_549 : decode cX11_clause 549 = .ok (.iconst 1, 1) := dk_4 (dk_at dksX11_clause_21 2 rfl rfl)
theorem dX11_clause_550 : decode cX11_clause 550 = .ok (.invokevirtual 119, 3) := dk_182 0 119 (dk_at dksX11_clause_21 3 rfl rfl)
theorem dX11_clause_553 : decode cX11_clause 553 = .ok (.return_, 1) := dk_177 (dk_at dksX11_clause_21 6 rfl rfl)
abbrev cX11_check : ByteArray := prog_13_method_8_code
def yX11_check : MethodName := ⟨RX11, "check", "(ZI)V"⟩
def dkwX11_check_0 : List UInt8 := [27, 154, 0, 16, 187, 0, 110, 89, 28, 42, 180, 0, 42, 183, 0, 112, 191, 177]
abbrev dktX11_check_0 : List UInt8 := dkwX11_check_0 ++ []
theorem dksX11_check_0 : cX11_check.data.toList.drop 0 = dktX11_check_0 := by decide +kernel
theorem dX11_check_0 : decode cX11_check 0 = .ok (.iload_n 1, 1) := dk_27 (dk_at dksX11_check_0 0 rfl rfl)
theorem dX11_check_1 : decode cX11_check 1 = .ok (.ifCond .ne 16, 3) := dk_154 0 16 (dk_at dksX11_check_0 1 rfl rfl)
theorem dX11_check_4 : decode cX11_check 4 = .ok (.new 110, 3) := dk_187 0 110 (dk_at dksX11_check_0 4 rfl rfl)
theorem dX11_check_7 : decode cX11_check 7 = .ok (.dup, 1) := dk_89 (dk_at dksX11_check_0 7 rfl rfl)
theorem dX11_check_8 : decode cX11_check 8 = .ok (.iload_n 2, 1) := dk_28 (dk_at dksX11_check_0 8 rfl rfl)
theorem dX11_check_9 : decode cX11_check 9 = .ok (.aload_n 0, 1) := dk_42 (dk_at dksX11_check_0 9 rfl rfl)
theorem dX11_check_10 : decode cX11_check 10 = .ok (.getfield 42, 3) := dk_180 0 42 (dk_at dksX11_check_0 10 rfl rfl)
theorem dX11_check_13 : decode cX11_check 13 = .ok (.invokespecial 112, 3) := dk_183 0 112 (dk_at dksX11_check_0 13 rfl rfl)
theorem dX11_check_16 : decode cX11_check 16 = .ok (.athrow, 1) := dk_191 (dk_at dksX11_check_0 16 rfl rfl)
theorem dX11_check_17 : decode cX11_check 17 = .ok (.return_, 1) := dk_177 (dk_at dksX11_check_0 17 rfl rfl)
abbrev cX11_once : ByteArray := prog_13_method_11_code
def yX11_once : MethodName := ⟨RX11, "once", "(I)V"⟩
def dkwX11_once_1 : List UInt8 := [180, 0, 20, 27, 182, 0, 126, 42, 182, 0, 32, 177]
abbrev dktX11_once_1 : List UInt8 := dkwX11_once_1 ++ []
def dkwX11_once_0 : List UInt8 := [42, 42, 180, 0, 20, 27, 182, 0, 123, 154, 0, 7, 4, 167, 0, 4, 3, 8, 182, 0, 119, 42]
abbrev dktX11_once_0 : List UInt8 := dkwX11_once_0 ++ dktX11_once_1
theorem dksX11_once_0 : cX11_once.data.toList.drop 0 = dktX11_once_0 := by decide +kernel
theorem dksX11_once_1 : cX11_once.data.toList.drop 22 = dktX11_once_1 := dk_seg dksX11_once_0 22 rfl rfl
theorem dX11_once_0 : decode cX11_once 0 = .ok (.aload_n 0, 1) := dk_42 (dk_at dksX11_once_0 0 rfl rfl)
theorem dX11_once_1 : decode cX11_once 1 = .ok (.aload_n 0, 1) := dk_42 (dk_at dksX11_once_0 1 rfl rfl)
theorem dX11_once_2 : decode cX11_once 2 = .ok (.getfield 20, 3) := dk_180 0 20 (dk_at dksX11_once_0 2 rfl rfl)
theorem dX11_once_5 : decode cX11_once 5 = .ok (.iload_n 1, 1) := dk_27 (dk_at dksX11_once_0 5 rfl rfl)
theorem dX11_once_6 : decode cX11_once 6 = .ok (.invokevirtual 123, 3) := dk_182 0 123 (dk_at dksX11_once_0 6 rfl rfl)
theorem dX11_once_9 : decode cX11_once 9 = .ok (.ifCond .ne 7, 3) := dk_154 0 7 (dk_at dksX11_once_0 9 rfl rfl)
theorem dX11_once_12 : decode cX11_once 12 = .ok (.iconst 1, 1) := dk_4 (dk_at dksX11_once_0 12 rfl rfl)
theorem dX11_once_13 : decode cX11_once 13 = .ok (.goto 4, 3) := dk_167 0 4 (dk_at dksX11_once_0 13 rfl rfl)
theorem dX11_once_16 : decode cX11_once 16 = .ok (.iconst 0, 1) := dk_3 (dk_at dksX11_once_0 16 rfl rfl)
theorem dX11_once_17 : decode cX11_once 17 = .ok (.iconst 5, 1) := dk_8 (dk_at dksX11_once_0 17 rfl rfl)
theorem dX11_once_18 : decode cX11_once 18 = .ok (.invokevirtual 119, 3) := dk_182 0 119 (dk_at dksX11_once_0 18 rfl rfl)
theorem dX11_once_21 : decode cX11_once 21 = .ok (.aload_n 0, 1) := dk_42 (dk_at dksX11_once_0 21 rfl rfl)
theorem dX11_once_22 : decode cX11_once 22 = .ok (.getfield 20, 3) := dk_180 0 20 (dk_at dksX11_once_1 0 rfl rfl)
theorem dX11_once_25 : decode cX11_once 25 = .ok (.iload_n 1, 1) := dk_27 (dk_at dksX11_once_1 3 rfl rfl)
theorem dX11_once_26 : decode cX11_once 26 = .ok (.invokevirtual 126, 3) := dk_182 0 126 (dk_at dksX11_once_1 4 rfl rfl)
theorem dX11_once_29 : decode cX11_once 29 = .ok (.aload_n 0, 1) := dk_42 (dk_at dksX11_once_1 7 rfl rfl)
theorem dX11_once_30 : decode cX11_once 30 = .ok (.invokevirtual 32, 3) := dk_182 0 32 (dk_at dksX11_once_1 8 rfl rfl)
theorem dX11_once_33 : decode cX11_once 33 = .ok (.return_, 1) := dk_177 (dk_at dksX11_once_1 11 rfl rfl)
abbrev cX11_number : ByteArray := prog_13_method_10_code
def yX11_number : MethodName := ⟨RX11, "number", "(II)I"⟩
def dkwX11_number_2 : List UInt8 := [167, 0, 4, 3, 5, 182, 0, 119, 42, 180, 0, 85, 62, 42, 182, 0, 32, 29, 172]
abbrev dktX11_number_2 : List UInt8 := dkwX11_number_2 ++ []
def dkwX11_number_1 : List UInt8 := [180, 0, 45, 154, 0, 23, 42, 180, 0, 85, 27, 161, 0, 15, 42, 180, 0, 85, 28, 163, 0, 7, 4]
abbrev dktX11_number_1 : List UInt8 := dkwX11_number_1 ++ dktX11_number_2
def dkwX11_number_0 : List UInt8 := [42, 42, 180, 0, 55, 178, 0, 88, 166, 0, 7, 4, 167, 0, 4, 3, 4, 182, 0, 119, 42, 42]
abbrev dktX11_number_0 : List UInt8 := dkwX11_number_0 ++ dktX11_number_1
theorem dksX11_number_0 : cX11_number.data.toList.drop 0 = dktX11_number_0 := by decide +kernel
theorem dksX11_number_1 : cX11_number.data.toList.drop 22 = dktX11_number_1 := dk_seg dksX11_number_0 22 rfl rfl
theorem dksX11_number_2 : cX11_number.data.toList.drop 45 = dktX11_number_2 := dk_seg dksX11_number_1 23 rfl rfl
theorem dX11_number_0 : decode cX11_number 0 = .ok (.aload_n 0, 1) := dk_42 (dk_at dksX11_number_0 0 rfl rfl)
theorem dX11_number_1 : decode cX11_number 1 = .ok (.aload_n 0, 1) := dk_42 (dk_at dksX11_number_0 1 rfl rfl)
theorem dX11_number_2 : decode cX11_number 2 = .ok (.getfield 55, 3) := dk_180 0 55 (dk_at dksX11_number_0 2 rfl rfl)
theorem dX11_number_5 : decode cX11_number 5 = .ok (.getstatic 88, 3) := dk_178 0 88 (dk_at dksX11_number_0 5 rfl rfl)
theorem dX11_number_8 : decode cX11_number 8 = .ok (.if_acmp .ne 7, 3) := dk_166 0 7 (dk_at dksX11_number_0 8 rfl rfl)
theorem dX11_number_11 : decode cX11_number 11 = .ok (.iconst 1, 1) := dk_4 (dk_at dksX11_number_0 11 rfl rfl)
theorem dX11_number_12 : decode cX11_number 12 = .ok (.goto 4, 3) := dk_167 0 4 (dk_at dksX11_number_0 12 rfl rfl)
theorem dX11_number_15 : decode cX11_number 15 = .ok (.iconst 0, 1) := dk_3 (dk_at dksX11_number_0 15 rfl rfl)
theorem dX11_number_16 : decode cX11_number 16 = .ok (.iconst 1, 1) := dk_4 (dk_at dksX11_number_0 16 rfl rfl)
theorem dX11_number_17 : decode cX11_number 17 = .ok (.invokevirtual 119, 3) := dk_182 0 119 (dk_at dksX11_number_0 17 rfl rfl)
theorem dX11_number_20 : decode cX11_number 20 = .ok (.aload_n 0, 1) := dk_42 (dk_at dksX11_number_0 20 rfl rfl)
theorem dX11_number_21 : decode cX11_number 21 = .ok (.aload_n 0, 1) := dk_42 (dk_at dksX11_number_0 21 rfl rfl)
theorem dX11_number_22 : decode cX11_number 22 = .ok (.getfield 45, 3) := dk_180 0 45 (dk_at dksX11_number_1 0 rfl rfl)
theorem dX11_number_25 : decode cX11_number 25 = .ok (.ifCond .ne 23, 3) := dk_154 0 23 (dk_at dksX11_number_1 3 rfl rfl)
theorem dX11_number_28 : decode cX11_number 28 = .ok (.aload_n 0, 1) := dk_42 (dk_at dksX11_number_1 6 rfl rfl)
theorem dX11_number_29 : decode cX11_number 29 = .ok (.getfield 85, 3) := dk_180 0 85 (dk_at dksX11_number_1 7 rfl rfl)
theorem dX11_number_32 : decode cX11_number 32 = .ok (.iload_n 1, 1) := dk_27 (dk_at dksX11_number_1 10 rfl rfl)
theorem dX11_number_33 : decode cX11_number 33 = .ok (.if_icmp .lt 15, 3) := dk_161 0 15 (dk_at dksX11_number_1 11 rfl rfl)
theorem dX11_number_36 : decode cX11_number 36 = .ok (.aload_n 0, 1) := dk_42 (dk_at dksX11_number_1 14 rfl rfl)
theorem dX11_number_37 : decode cX11_number 37 = .ok (.getfield 85, 3) := dk_180 0 85 (dk_at dksX11_number_1 15 rfl rfl)
theorem dX11_number_40 : decode cX11_number 40 = .ok (.iload_n 2, 1) := dk_28 (dk_at dksX11_number_1 18 rfl rfl)
theorem dX11_number_41 : decode cX11_number 41 = .ok (.if_icmp .gt 7, 3) := dk_163 0 7 (dk_at dksX11_number_1 19 rfl rfl)
theorem dX11_number_44 : decode cX11_number 44 = .ok (.iconst 1, 1) := dk_4 (dk_at dksX11_number_1 22 rfl rfl)
theorem dX11_number_45 : decode cX11_number 45 = .ok (.goto 4, 3) := dk_167 0 4 (dk_at dksX11_number_2 0 rfl rfl)
theorem dX11_number_48 : decode cX11_number 48 = .ok (.iconst 0, 1) := dk_3 (dk_at dksX11_number_2 3 rfl rfl)
theorem dX11_number_49 : decode cX11_number 49 = .ok (.iconst 2, 1) := dk_5 (dk_at dksX11_number_2 4 rfl rfl)
theorem dX11_number_50 : decode cX11_number 50 = .ok (.invokevirtual 119, 3) := dk_182 0 119 (dk_at dksX11_number_2 5 rfl rfl)
theorem dX11_number_53 : decode cX11_number 53 = .ok (.aload_n 0, 1) := dk_42 (dk_at dksX11_number_2 8 rfl rfl)
theorem dX11_number_54 : decode cX11_number 54 = .ok (.getfield 85, 3) := dk_180 0 85 (dk_at dksX11_number_2 9 rfl rfl)
theorem dX11_number_57 : decode cX11_number 57 = .ok (.istore_n 3, 1) := dk_62 (dk_at dksX11_number_2 12 rfl rfl)
theorem dX11_number_58 : decode cX11_number 58 = .ok (.aload_n 0, 1) := dk_42 (dk_at dksX11_number_2 13 rfl rfl)
theorem dX11_number_59 : decode cX11_number 59 = .ok (.invokevirtual 32, 3) := dk_182 0 32 (dk_at dksX11_number_2 14 rfl rfl)
theorem dX11_number_62 : decode cX11_number 62 = .ok (.iload_n 3, 1) := dk_29 (dk_at dksX11_number_2 17 rfl rfl)
theorem dX11_number_63 : decode cX11_number 63 = .ok (.ireturn, 1) := dk_172 (dk_at dksX11_number_2 18 rfl rfl)
abbrev cX11_is : ByteArray := prog_13_method_7_code
def yX11_is : MethodName := ⟨RX11, "is", "(Ljava/lang/String;)Z"⟩
def dkwX11_is_1 : List UInt8 := [43, 182, 0, 106, 153, 0, 7, 4, 167, 0, 4, 3, 172]
abbrev dktX11_is_1 : List UInt8 := dkwX11_is_1 ++ []
def dkwX11_is_0 : List UInt8 := [42, 180, 0, 55, 178, 0, 79, 165, 0, 13, 42, 180, 0, 55, 178, 0, 94, 166, 0, 18, 42, 180, 0, 11]
abbrev dktX11_is_0 : List UInt8 := dkwX11_is_0 ++ dktX11_is_1
theorem dksX11_is_0 : cX11_is.data.toList.drop 0 = dktX11_is_0 := by decide +kernel
theorem dksX11_is_1 : cX11_is.data.toList.drop 24 = dktX11_is_1 := dk_seg dksX11_is_0 24 rfl rfl
theorem dX11_is_0 : decode cX11_is 0 = .ok (.aload_n 0, 1) := dk_42 (dk_at dksX11_is_0 0 rfl rfl)
theorem dX11_is_1 : decode cX11_is 1 = .ok (.getfield 55, 3) := dk_180 0 55 (dk_at dksX11_is_0 1 rfl rfl)
theorem dX11_is_4 : decode cX11_is 4 = .ok (.getstatic 79, 3) := dk_178 0 79 (dk_at dksX11_is_0 4 rfl rfl)
theorem dX11_is_7 : decode cX11_is 7 = .ok (.if_acmp .eq 13, 3) := dk_165 0 13 (dk_at dksX11_is_0 7 rfl rfl)
theorem dX11_is_10 : decode cX11_is 10 = .ok (.aload_n 0, 1) := dk_42 (dk_at dksX11_is_0 10 rfl rfl)
theorem dX11_is_11 : decode cX11_is 11 = .ok (.getfield 55, 3) := dk_180 0 55 (dk_at dksX11_is_0 11 rfl rfl)
theorem dX11_is_14 : decode cX11_is 14 = .ok (.getstatic 94, 3) := dk_178 0 94 (dk_at dksX11_is_0 14 rfl rfl)
theorem dX11_is_17 : decode cX11_is 17 = .ok (.if_acmp .ne 18, 3) := dk_166 0 18 (dk_at dksX11_is_0 17 rfl rfl)
theorem dX11_is_20 : decode cX11_is 20 = .ok (.aload_n 0, 1) := dk_42 (dk_at dksX11_is_0 20 rfl rfl)
theorem dX11_is_21 : decode cX11_is 21 = .ok (.getfield 11, 3) := dk_180 0 11 (dk_at dksX11_is_0 21 rfl rfl)
theorem dX11_is_24 : decode cX11_is 24 = .ok (.aload_n 1, 1) := dk_43 (dk_at dksX11_is_1 0 rfl rfl)
theorem dX11_is_25 : decode cX11_is 25 = .ok (.invokevirtual 106, 3) := dk_182 0 106 (dk_at dksX11_is_1 1 rfl rfl)
theorem dX11_is_28 : decode cX11_is 28 = .ok (.ifCond .eq 7, 3) := dk_153 0 7 (dk_at dksX11_is_1 4 rfl rfl)
theorem dX11_is_31 : decode cX11_is 31 = .ok (.iconst 1, 1) := dk_4 (dk_at dksX11_is_1 7 rfl rfl)
theorem dX11_is_32 : decode cX11_is 32 = .ok (.goto 4, 3) := dk_167 0 4 (dk_at dksX11_is_1 8 rfl rfl)
theorem dX11_is_35 : decode cX11_is 35 = .ok (.iconst 0, 1) := dk_3 (dk_at dksX11_is_1 11 rfl rfl)
theorem dX11_is_36 : decode cX11_is 36 = .ok (.ireturn, 1) := dk_172 (dk_at dksX11_is_1 12 rfl rfl)
abbrev cX11_expr : ByteArray := prog_13_method_14_code
def yX11_expr : MethodName := ⟨RX11, "expr", "(I)LCircuitCells$Expr;"⟩
def dkwX11_expr_3 : List UInt8 := [42, 27, 182, 0, 211, 183, 0, 218, 77, 167, 255, 227, 44, 176]
abbrev dktX11_expr_3 : List UInt8 := dkwX11_expr_3 ++ []
def dkwX11_expr_2 : List UInt8 := [182, 0, 211, 77, 42, 18, 214, 182, 0, 115, 153, 0, 26, 42, 182, 0, 32, 187, 0, 216, 89, 16, 124, 44]
abbrev dktX11_expr_2 : List UInt8 := dkwX11_expr_2 ++ dktX11_expr_3
def dkwX11_expr_1 : List UInt8 := [165, 0, 16, 42, 18, 209, 182, 0, 115, 154, 0, 7, 4, 167, 0, 4, 3, 5, 182, 0, 119, 42, 27]
abbrev dktX11_expr_1 : List UInt8 := dkwX11_expr_1 ++ dktX11_expr_2
def dkwX11_expr_0 : List UInt8 := [27, 16, 6, 161, 0, 42, 42, 42, 180, 0, 55, 178, 0, 88, 165, 0, 26, 42, 180, 0, 55, 178, 0, 79]
abbrev dktX11_expr_0 : List UInt8 := dkwX11_expr_0 ++ dktX11_expr_1
theorem dksX11_expr_0 : cX11_expr.data.toList.drop 0 = dktX11_expr_0 := by decide +kernel
theorem dksX11_expr_1 : cX11_expr.data.toList.drop 24 = dktX11_expr_1 := dk_seg dksX11_expr_0 24 rfl rfl
theorem dksX11_expr_2 : cX11_expr.data.toList.drop 47 = dktX11_expr_2 := dk_seg dksX11_expr_1 23 rfl rfl
theorem dksX11_expr_3 : cX11_expr.data.toList.drop 71 = dktX11_expr_3 := dk_seg dksX11_expr_2 24 rfl rfl
theorem dX11_expr_0 : decode cX11_expr 0 = .ok (.iload_n 1, 1) := dk_27 (dk_at dksX11_expr_0 0 rfl rfl)
theorem dX11_expr_1 : decode cX11_expr 1 = .ok (.bipush 6, 2) := dk_16 6 (dk_at dksX11_expr_0 1 rfl rfl)
theorem dX11_expr_3 : decode cX11_expr 3 = .ok (.if_icmp .lt 42, 3) := dk_161 0 42 (dk_at dksX11_expr_0 3 rfl rfl)
theorem dX11_expr_6 : decode cX11_expr 6 = .ok (.aload_n 0, 1) := dk_42 (dk_at dksX11_expr_0 6 rfl rfl)
theorem dX11_expr_7 : decode cX11_expr 7 = .ok (.aload_n 0, 1) := dk_42 (dk_at dksX11_expr_0 7 rfl rfl)
theorem dX11_expr_8 : decode cX11_expr 8 = .ok (.getfield 55, 3) := dk_180 0 55 (dk_at dksX11_expr_0 8 rfl rfl)
theorem dX11_expr_11 : decode cX11_expr 11 = .ok (.getstatic 88, 3) := dk_178 0 88 (dk_at dksX11_expr_0 11 rfl rfl)
theorem dX11_expr_14 : decode cX11_expr 14 = .ok (.if_acmp .eq 26, 3) := dk_165 0 26 (dk_at dksX11_expr_0 14 rfl rfl)
theorem dX11_expr_17 : decode cX11_expr 17 = .ok (.aload_n 0, 1) := dk_42 (dk_at dksX11_expr_0 17 rfl rfl)
theorem dX11_expr_18 : decode cX11_expr 18 = .ok (.getfield 55, 3) := dk_180 0 55 (dk_at dksX11_expr_0 18 rfl rfl)
theorem dX11_expr_21 : decode cX11_expr 21 = .ok (.getstatic 79, 3) := dk_178 0 79 (dk_at dksX11_expr_0 21 rfl rfl)
theorem dX11_expr_24 : decode cX11_expr 24 = .ok (.if_acmp .eq 16, 3) := dk_165 0 16 (dk_at dksX11_expr_1 0 rfl rfl)
theorem dX11_expr_27 : decode cX11_expr 27 = .ok (.aload_n 0, 1) := dk_42 (dk_at dksX11_expr_1 3 rfl rfl)
theorem dX11_expr_28 : decode cX11_expr 28 = .ok (.ldc 209, 2) := dk_18 209 (dk_at dksX11_expr_1 4 rfl rfl)
theorem dX11_expr_30 : decode cX11_expr 30 = .ok (.invokevirtual 115, 3) := dk_182 0 115 (dk_at dksX11_expr_1 6 rfl rfl)
theorem dX11_expr_33 : decode cX11_expr 33 = .ok (.ifCond .ne 7, 3) := dk_154 0 7 (dk_at dksX11_expr_1 9 rfl rfl)
theorem dX11_expr_36 : decode cX11_expr 36 = .ok (.iconst 1, 1) := dk_4 (dk_at dksX11_expr_1 12 rfl rfl)
theorem dX11_expr_37 : decode cX11_expr 37 = .ok (.goto 4, 3) := dk_167 0 4 (dk_at dksX11_expr_1 13 rfl rfl)
theorem dX11_expr_40 : decode cX11_expr 40 = .ok (.iconst 0, 1) := dk_3 (dk_at dksX11_expr_1 16 rfl rfl)
theorem dX11_expr_41 : decode cX11_expr 41 = .ok (.iconst 2, 1) := dk_5 (dk_at dksX11_expr_1 17 rfl rfl)
theorem dX11_expr_42 : decode cX11_expr 42 = .ok (.invokevirtual 119, 3) := dk_182 0 119 (dk_at dksX11_expr_1 18 rfl rfl)
theorem dX11_expr_45 : decode cX11_expr 45 = .ok (.aload_n 0, 1) := dk_42 (dk_at dksX11_expr_1 21 rfl rfl)
theorem dX11_expr_46 : decode cX11_expr 46 = .ok (.iload_n 1, 1) := dk_27 (dk_at dksX11_expr_1 22 rfl rfl)
theorem dX11_expr_47 : decode cX11_expr 47 = .ok (.invokevirtual 211, 3) := dk_182 0 211 (dk_at dksX11_expr_2 0 rfl rfl)
theorem dX11_expr_50 : decode cX11_expr 50 = .ok (.astore_n 2, 1) := dk_77 (dk_at dksX11_expr_2 3 rfl rfl)
theorem dX11_expr_51 : decode cX11_expr 51 = .ok (.aload_n 0, 1) := dk_42 (dk_at dksX11_expr_2 4 rfl rfl)
theorem dX11_expr_52 : decode cX11_expr 52 = .ok (.ldc 214, 2) := dk_18 214 (dk_at dksX11_expr_2 5 rfl rfl)
theorem dX11_expr_54 : decode cX11_expr 54 = .ok (.invokevirtual 115, 3) := dk_182 0 115 (dk_at dksX11_expr_2 7 rfl rfl)
theorem dX11_expr_57 : decode cX11_expr 57 = .ok (.ifCond .eq 26, 3) := dk_153 0 26 (dk_at dksX11_expr_2 10 rfl rfl)
theorem dX11_expr_60 : decode cX11_expr 60 = .ok (.aload_n 0, 1) := dk_42 (dk_at dksX11_expr_2 13 rfl rfl)
theorem dX11_expr_61 : decode cX11_expr 61 = .ok (.invokevirtual 32, 3) := dk_182 0 32 (dk_at dksX11_expr_2 14 rfl rfl)
theorem dX11_expr_64 : decode cX11_expr 64 = .ok (.new 216, 3) := dk_187 0 216 (dk_at dksX11_expr_2 17 rfl rfl)
theorem dX11_expr_67 : decode cX11_expr 67 = .ok (.dup, 1) := dk_89 (dk_at dksX11_expr_2 20 rfl rfl)
theorem dX11_expr_68 : decode cX11_expr 68 = .ok (.bipush 124, 2) := dk_16 124 (dk_at dksX11_expr_2 21 rfl rfl)
theorem dX11_expr_70 : decode cX11_expr 70 = .ok (.aload_n 2, 1) := dk_44 (dk_at dksX11_expr_2 23 rfl rfl)
theorem dX11_expr_71 : decode cX11_expr 71 = .ok (.aload_n 0, 1) := dk_42 (dk_at dksX11_expr_3 0 rfl rfl)
theorem dX11_expr_72 : decode cX11_expr 72 = .ok (.iload_n 1, 1) := dk_27 (dk_at dksX11_expr_3 1 rfl rfl)
theorem dX11_expr_73 : decode cX11_expr 73 = .ok (.invokevirtual 211, 3) := dk_182 0 211 (dk_at dksX11_expr_3 2 rfl rfl)
theorem dX11_expr_76 : decode cX11_expr 76 = .ok (.invokespecial 218, 3) := dk_183 0 218 (dk_at dksX11_expr_3 5 rfl rfl)
theorem dX11_expr_79 : decode cX11_expr 79 = .ok (.astore_n 2, 1) := dk_77 (dk_at dksX11_expr_3 8 rfl rfl)
theorem dX11_expr_80 : decode cX11_expr 80 = .ok (.goto (-29), 3) := dk_167 255 227 (dk_at dksX11_expr_3 9 rfl rfl)
theorem dX11_expr_83 : decode cX11_expr 83 = .ok (.aload_n 2, 1) := dk_44 (dk_at dksX11_expr_3 12 rfl rfl)
theorem dX11_expr_84 : decode cX11_expr 84 = .ok (.areturn, 1) := dk_176 (dk_at dksX11_expr_3 13 rfl rfl)
abbrev cX11_and : ByteArray := prog_13_method_15_code
def yX11_and : MethodName := ⟨RX11, "and", "(I)LCircuitCells$Expr;"⟩
def dkwX11_and_1 : List UInt8 := [16, 38, 44, 42, 27, 182, 0, 221, 183, 0, 218, 77, 167, 255, 227, 44, 176]
abbrev dktX11_and_1 : List UInt8 := dkwX11_and_1 ++ []
def dkwX11_and_0 : List UInt8 := [42, 27, 182, 0, 221, 77, 42, 18, 224, 182, 0, 115, 153, 0, 26, 42, 182, 0, 32, 187, 0, 216, 89]
abbrev dktX11_and_0 : List UInt8 := dkwX11_and_0 ++ dktX11_and_1
theorem dksX11_and_0 : cX11_and.data.toList.drop 0 = dktX11_and_0 := by decide +kernel
theorem dksX11_and_1 : cX11_and.data.toList.drop 23 = dktX11_and_1 := dk_seg dksX11_and_0 23 rfl rfl
theorem dX11_and_0 : decode cX11_and 0 = .ok (.aload_n 0, 1) := dk_42 (dk_at dksX11_and_0 0 rfl rfl)
theorem dX11_and_1 : decode cX11_and 1 = .ok (.iload_n 1, 1) := dk_27 (dk_at dksX11_and_0 1 rfl rfl)
theorem dX11_and_2 : decode cX11_and 2 = .ok (.invokevirtual 221, 3) := dk_182 0 221 (dk_at dksX11_and_0 2 rfl rfl)
theorem dX11_and_5 : decode cX11_and 5 = .ok (.astore_n 2, 1) := dk_77 (dk_at dksX11_and_0 5 rfl rfl)
theorem dX11_and_6 : decode cX11_and 6 = .ok (.aload_n 0, 1) := dk_42 (dk_at dksX11_and_0 6 rfl rfl)
theorem dX11_and_7 : decode cX11_and 7 = .ok (.ldc 224, 2) := dk_18 224 (dk_at dksX11_and_0 7 rfl rfl)
theorem dX11_and_9 : decode cX11_and 9 = .ok (.invokevirtual 115, 3) := dk_182 0 115 (dk_at dksX11_and_0 9 rfl rfl)
theorem dX11_and_12 : decode cX11_and 12 = .ok (.ifCond .eq 26, 3) := dk_153 0 26 (dk_at dksX11_and_0 12 rfl rfl)
theorem dX11_and_15 : decode cX11_and 15 = .ok (.aload_n 0, 1) := dk_42 (dk_at dksX11_and_0 15 rfl rfl)
theorem dX11_and_16 : decode cX11_and 16 = .ok (.invokevirtual 32, 3) := dk_182 0 32 (dk_at dksX11_and_0 16 rfl rfl)
theorem dX11_and_19 : decode cX11_and 19 = .ok (.new 216, 3) := dk_187 0 216 (dk_at dksX11_and_0 19 rfl rfl)
theorem dX11_and_22 : decode cX11_and 22 = .ok (.dup, 1) := dk_89 (dk_at dksX11_and_0 22 rfl rfl)
theorem dX11_and_23 : decode cX11_and 23 = .ok (.bipush 38, 2) := dk_16 38 (dk_at dksX11_and_1 0 rfl rfl)
theorem dX11_and_25 : decode cX11_and 25 = .ok (.aload_n 2, 1) := dk_44 (dk_at dksX11_and_1 2 rfl rfl)
theorem dX11_and_26 : decode cX11_and 26 = .ok (.aload_n 0, 1) := dk_42 (dk_at dksX11_and_1 3 rfl rfl)
theorem dX11_and_27 : decode cX11_and 27 = .ok (.iload_n 1, 1) := dk_27 (dk_at dksX11_and_1 4 rfl rfl)
theorem dX11_and_28 : decode cX11_and 28 = .ok (.invokevirtual 221, 3) := dk_182 0 221 (dk_at dksX11_and_1 5 rfl rfl)
theorem dX11_and_31 : decode cX11_and 31 = .ok (.invokespecial 218, 3) := dk_183 0 218 (dk_at dksX11_and_1 8 rfl rfl)
theorem dX11_and_34 : decode cX11_and 34 = .ok (.astore_n 2, 1) := dk_77 (dk_at dksX11_and_1 11 rfl rfl)
theorem dX11_and_35 : decode cX11_and 35 = .ok (.goto (-29), 3) := dk_167 255 227 (dk_at dksX11_and_1 12 rfl rfl)
theorem dX11_and_38 : decode cX11_and 38 = .ok (.aload_n 2, 1) := dk_44 (dk_at dksX11_and_1 15 rfl rfl)
theorem dX11_and_39 : decode cX11_and 39 = .ok (.areturn, 1) := dk_176 (dk_at dksX11_and_1 16 rfl rfl)
abbrev cX11_not : ByteArray := prog_13_method_16_code
def yX11_not : MethodName := ⟨RX11, "not", "(I)LCircuitCells$Expr;"⟩
def dkwX11_not_4 : List UInt8 := [158, 0, 18, 187, 0, 237, 89, 45, 183, 0, 239, 78, 132, 2, 255, 167, 255, 240, 45, 176]
abbrev dktX11_not_4 : List UInt8 := dkwX11_not_4 ++ []
def dkwX11_not_3 : List UInt8 := [54, 4, 42, 182, 0, 32, 187, 0, 216, 89, 21, 4, 45, 42, 27, 182, 0, 226, 183, 0, 218, 78, 28]
abbrev dktX11_not_3 : List UInt8 := dkwX11_not_3 ++ dktX11_not_4
def dkwX11_not_2 : List UInt8 := [182, 0, 115, 154, 0, 12, 42, 18, 231, 182, 0, 115, 153, 0, 33, 42, 180, 0, 11, 3, 182, 0, 233]
abbrev dktX11_not_2 : List UInt8 := dkwX11_not_2 ++ dktX11_not_3
def dkwX11_not_1 : List UInt8 := [182, 0, 119, 42, 182, 0, 32, 132, 2, 1, 167, 255, 224, 42, 27, 182, 0, 226, 78, 42, 18, 229]
abbrev dktX11_not_1 : List UInt8 := dkwX11_not_1 ++ dktX11_not_2
def dkwX11_not_0 : List UInt8 := [3, 61, 42, 18, 225, 182, 0, 115, 153, 0, 29, 42, 28, 16, 6, 162, 0, 7, 4, 167, 0, 4, 3, 5]
abbrev dktX11_not_0 : List UInt8 := dkwX11_not_0 ++ dktX11_not_1
theorem dksX11_not_0 : cX11_not.data.toList.drop 0 = dktX11_not_0 := by decide +kernel
theorem dksX11_not_1 : cX11_not.data.toList.drop 24 = dktX11_not_1 := dk_seg dksX11_not_0 24 rfl rfl
theorem dksX11_not_2 : cX11_not.data.toList.drop 46 = dktX11_not_2 := dk_seg dksX11_not_1 22 rfl rfl
theorem dksX11_not_3 : cX11_not.data.toList.drop 69 = dktX11_not_3 := dk_seg dksX11_not_2 23 rfl rfl
theorem dksX11_not_4 : cX11_not.data.toList.drop 92 = dktX11_not_4 := dk_seg dksX11_not_3 23 rfl rfl
theorem dX11_not_0 : decode cX11_not 0 = .ok (.iconst 0, 1) := dk_3 (dk_at dksX11_not_0 0 rfl rfl)
theorem dX11_not_1 : decode cX11_not 1 = .ok (.istore_n 2, 1) := dk_61 (dk_at dksX11_not_0 1 rfl rfl)
theorem dX11_not_2 : decode cX11_not 2 = .ok (.aload_n 0, 1) := dk_42 (dk_at dksX11_not_0 2 rfl rfl)
theorem dX11_not_3 : decode cX11_not 3 = .ok (.ldc 225, 2) := dk_18 225 (dk_at dksX11_not_0 3 rfl rfl)
theorem dX11_not_5 : decode cX11_not 5 = .ok (.invokevirtual 115, 3) := dk_182 0 115 (dk_at dksX11_not_0 5 rfl rfl)
theorem dX11_not_8 : decode cX11_not 8 = .ok (.ifCond .eq 29, 3) := dk_153 0 29 (dk_at dksX11_not_0 8 rfl rfl)
theorem dX11_not_11 : decode cX11_not 11 = .ok (.aload_n 0, 1) := dk_42 (dk_at dksX11_not_0 11 rfl rfl)
theorem dX11_not_12 : decode cX11_not 12 = .ok (.iload_n 2, 1) := dk_28 (dk_at dksX11_not_0 12 rfl rfl)
theorem dX11_not_13 : decode cX11_not 13 = .ok (.bipush 6, 2) := dk_16 6 (dk_at dksX11_not_0 13 rfl rfl)
theorem dX11_not_15 : decode cX11_not 15 = .ok (.if_icmp .ge 7, 3) := dk_162 0 7 (dk_at dksX11_not_0 15 rfl rfl)
theorem dX11_not_18 : decode cX11_not 18 = .ok (.iconst 1, 1) := dk_4 (dk_at dksX11_not_0 18 rfl rfl)
theorem dX11_not_19 : decode cX11_not 19 = .ok (.goto 4, 3) := dk_167 0 4 (dk_at dksX11_not_0 19 rfl rfl)
theorem dX11_not_22 : decode cX11_not 22 = .ok (.iconst 0, 1) := dk_3 (dk_at dksX11_not_0 22 rfl rfl)
theorem dX11_not_23 : decode cX11_not 23 = .ok (.iconst 2, 1) := dk_5 (dk_at dksX11_not_0 23 rfl rfl)
theorem dX11_not_24 : decode cX11_not 24 = .ok (.invokevirtual 119, 3) := dk_182 0 119 (dk_at dksX11_not_1 0 rfl rfl)
theorem dX11_not_27 : decode cX11_not 27 = .ok (.aload_n 0, 1) := dk_42 (dk_at dksX11_not_1 3 rfl rfl)
theorem dX11_not_28 : decode cX11_not 28 = .ok (.invokevirtual 32, 3) := dk_182 0 32 (dk_at dksX11_not_1 4 rfl rfl)
theorem dX11_not_31 : decode cX11_not 31 = .ok (.iinc 2 1, 3) := dk_132 2 1 (dk_at dksX11_not_1 7 rfl rfl)
theorem dX11_not_34 : decode cX11_not 34 = .ok (.goto (-32), 3) := dk_167 255 224 (dk_at dksX11_not_1 10 rfl rfl)
theorem dX11_not_37 : decode cX11_not 37 = .ok (.aload_n 0, 1) := dk_42 (dk_at dksX11_not_1 13 rfl rfl)
theorem dX11_not_38 : decode cX11_not 38 = .ok (.iload_n 1, 1) := dk_27 (dk_at dksX11_not_1 14 rfl rfl)
theorem dX11_not_39 : decode cX11_not 39 = .ok (.invokevirtual 226, 3) := dk_182 0 226 (dk_at dksX11_not_1 15 rfl rfl)
theorem dX11_not_42 : decode cX11_not 42 = .ok (.astore_n 3, 1) := dk_78 (dk_at dksX11_not_1 18 rfl rfl)
theorem dX11_not_43 : decode cX11_not 43 = .ok (.aload_n 0, 1) := dk_42 (dk_at dksX11_not_1 19 rfl rfl)
theorem dX11_not_44 : decode cX11_not 44 = .ok (.ldc 229, 2) := dk_18 229 (dk_at dksX11_not_1 20 rfl rfl)
theorem dX11_not_46 : decode cX11_not 46 = .ok (.invokevirtual 115, 3) := dk_182 0 115 (dk_at dksX11_not_2 0 rfl rfl)
theorem dX11_not_49 : decode cX11_not 49 = .ok (.ifCond .ne 12, 3) := dk_154 0 12 (dk_at dksX11_not_2 3 rfl rfl)
theorem dX11_not_52 : decode cX11_not 52 = .ok (.aload_n 0, 1) := dk_42 (dk_at dksX11_not_2 6 rfl rfl)
theorem dX11_not_53 : decode cX11_not 53 = .ok (.ldc 231, 2) := dk_18 231 (dk_at dksX11_not_2 7 rfl rfl)
theorem dX11_not_55 : decode cX11_not 55 = .ok (.invokevirtual 115, 3) := dk_182 0 115 (dk_at dksX11_not_2 9 rfl rfl)
theorem dX11_not_58 : decode cX11_not 58 = .ok (.ifCond .eq 33, 3) := dk_153 0 33 (dk_at dksX11_not_2 12 rfl rfl)
theorem dX11_not_61 : decode cX11_not 61 = .ok (.aload_n 0, 1) := dk_42 (dk_at dksX11_not_2 15 rfl rfl)
theorem dX11_not_62 : decode cX11_not 62 = .ok (.getfield 11, 3) := dk_180 0 11 (dk_at dksX11_not_2 16 rfl rfl)
theorem dX11_not_65 : decode cX11_not 65 = .ok (.iconst 0, 1) := dk_3 (dk_at dksX11_not_2 19 rfl rfl)
theorem dX11_not_66 : decode cX11_not 66 = .ok (.invokevirtual 233, 3) := dk_182 0 233 (dk_at dksX11_not_2 20 rfl rfl)
theorem dX11_not_69 : decode cX11_not 69 = .ok (.istore 4, 2) := dk_54 4 (dk_at dksX11_not_3 0 rfl rfl)
theorem dX11_not_71 : decode cX11_not 71 = .ok (.aload_n 0, 1) := dk_42 (dk_at dksX11_not_3 2 rfl rfl)
theorem dX11_not_72 : decode cX11_not 72 = .ok (.invokevirtual 32, 3) := dk_182 0 32 (dk_at dksX11_not_3 3 rfl rfl)
theorem dX11_not_75 : decode cX11_not 75 = .ok (.new 216, 3) := dk_187 0 216 (dk_at dksX11_not_3 6 rfl rfl)
theorem dX11_not_78 : decode cX11_not 78 = .ok (.dup, 1) := dk_89 (dk_at dksX11_not_3 9 rfl rfl)
theorem dX11_not_79 : decode cX11_not 79 = .ok (.iload 4, 2) := dk_21 4 (dk_at dksX11_not_3 10 rfl rfl)
theorem dX11_not_81 : decode cX11_not 81 = .ok (.aload_n 3, 1) := dk_45 (dk_at dksX11_not_3 12 rfl rfl)
theorem dX11_not_82 : decode cX11_not 82 = .ok (.aload_n 0, 1) := dk_42 (dk_at dksX11_not_3 13 rfl rfl)
theorem dX11_not_83 : decode cX11_not 83 = .ok (.iload_n 1, 1) := dk_27 (dk_at dksX11_not_3 14 rfl rfl)
theorem dX11_not_84 : decode cX11_not 84 = .ok (.invokevirtual 226, 3) := dk_182 0 226 (dk_at dksX11_not_3 15 rfl rfl)
theorem dX11_not_87 : decode cX11_not 87 = .ok (.invokespecial 218, 3) := dk_183 0 218 (dk_at dksX11_not_3 18 rfl rfl)
theorem dX11_not_90 : decode cX11_not 90 = .ok (.astore_n 3, 1) := dk_78 (dk_at dksX11_not_3 21 rfl rfl)
theorem dX11_not_91 : decode cX11_not 91 = .ok (.iload_n 2, 1) := dk_28 (dk_at dksX11_not_3 22 rfl rfl)
theorem dX11_not_92 : decode cX11_not 92 = .ok (.ifCond .le 18, 3) := dk_158 0 18 (dk_at dksX11_not_4 0 rfl rfl)
theorem dX11_not_95 : decode cX11_not 95 = .ok (.new 237, 3) := dk_187 0 237 (dk_at dksX11_not_4 3 rfl rfl)
theorem dX11_not_98 : decode cX11_not 98 = .ok (.dup, 1) := dk_89 (dk_at dksX11_not_4 6 rfl rfl)
theorem dX11_not_99 : decode cX11_not 99 = .ok (.aload_n 3, 1) := dk_45 (dk_at dksX11_not_4 7 rfl rfl)
theorem dX11_not_100 : decode cX11_not 100 = .ok (.invokespecial 239, 3) := dk_183 0 239 (dk_at dksX11_not_4 8 rfl rfl)
theorem dX11_not_103 : decode cX11_not 103 = .ok (.astore_n 3, 1) := dk_78 (dk_at dksX11_not_4 11 rfl rfl)
theorem dX11_not_104 : decode cX11_not 104 = .ok (.iinc 2 (-1), 3) := dk_132 2 255 (dk_at dksX11_not_4 12 rfl rfl)
theorem dX11_not_107 : decode cX11_not 107 = .ok (.goto (-16), 3) := dk_167 255 240 (dk_at dksX11_not_4 15 rfl rfl)
theorem dX11_not_110 : decode cX11_not 110 = .ok (.aload_n 3, 1) := dk_45 (dk_at dksX11_not_4 18 rfl rfl)
theorem dX11_not_111 : decode cX11_not 111 = .ok (.areturn, 1) := dk_176 (dk_at dksX11_not_4 19 rfl rfl)
abbrev cX11_sum : ByteArray := prog_13_method_17_code
def yX11_sum : MethodName := ⟨RX11, "sum", "(I)LCircuitCells$Expr;"⟩
def dkwX11_sum_2 : List UInt8 := [183, 0, 218, 77, 167, 255, 210, 44, 176]
abbrev dktX11_sum_2 : List UInt8 := dkwX11_sum_2 ++ []
def dkwX11_sum_1 : List UInt8 := [42, 180, 0, 11, 3, 182, 0, 233, 62, 42, 182, 0, 32, 187, 0, 216, 89, 29, 44, 42, 27, 182, 0, 242]
abbrev dktX11_sum_1 : List UInt8 := dkwX11_sum_1 ++ dktX11_sum_2
def dkwX11_sum_0 : List UInt8 := [42, 27, 182, 0, 242, 77, 42, 18, 245, 182, 0, 115, 154, 0, 12, 42, 18, 179, 182, 0, 115, 153, 0, 34]
abbrev dktX11_sum_0 : List UInt8 := dkwX11_sum_0 ++ dktX11_sum_1
theorem dksX11_sum_0 : cX11_sum.data.toList.drop 0 = dktX11_sum_0 := by decide +kernel
theorem dksX11_sum_1 : cX11_sum.data.toList.drop 24 = dktX11_sum_1 := dk_seg dksX11_sum_0 24 rfl rfl
theorem dksX11_sum_2 : cX11_sum.data.toList.drop 48 = dktX11_sum_2 := dk_seg dksX11_sum_1 24 rfl rfl
theorem dX11_sum_0 : decode cX11_sum 0 = .ok (.aload_n 0, 1) := dk_42 (dk_at dksX11_sum_0 0 rfl rfl)
theorem dX11_sum_1 : decode cX11_sum 1 = .ok (.iload_n 1, 1) := dk_27 (dk_at dksX11_sum_0 1 rfl rfl)
theorem dX11_sum_2 : decode cX11_sum 2 = .ok (.invokevirtual 242, 3) := dk_182 0 242 (dk_at dksX11_sum_0 2 rfl rfl)
theorem dX11_sum_5 : decode cX11_sum 5 = .ok (.astore_n 2, 1) := dk_77 (dk_at dksX11_sum_0 5 rfl rfl)
theorem dX11_sum_6 : decode cX11_sum 6 = .ok (.aload_n 0, 1) := dk_42 (dk_at dksX11_sum_0 6 rfl rfl)
theorem dX11_sum_7 : decode cX11_sum 7 = .ok (.ldc 245, 2) := dk_18 245 (dk_at dksX11_sum_0 7 rfl rfl)
theorem dX11_sum_9 : decode cX11_sum 9 = .ok (.invokevirtual 115, 3) := dk_182 0 115 (dk_at dksX11_sum_0 9 rfl rfl)
theorem dX11_sum_12 : decode cX11_sum 12 = .ok (.ifCond .ne 12, 3) := dk_154 0 12 (dk_at dksX11_sum_0 12 rfl rfl)
theorem dX11_sum_15 : decode cX11_sum 15 = .ok (.aload_n 0, 1) := dk_42 (dk_at dksX11_sum_0 15 rfl rfl)
theorem dX11_sum_16 : decode cX11_sum 16 = .ok (.ldc 179, 2) := dk_18 179 (dk_at dksX11_sum_0 16 rfl rfl)
theorem dX11_sum_18 : decode cX11_sum 18 = .ok (.invokevirtual 115, 3) := dk_182 0 115 (dk_at dksX11_sum_0 18 rfl rfl)
theorem dX11_sum_21 : decode cX11_sum 21 = .ok (.ifCond .eq 34, 3) := dk_153 0 34 (dk_at dksX11_sum_0 21 rfl rfl)
theorem dX11_sum_24 : decode cX11_sum 24 = .ok (.aload_n 0, 1) := dk_42 (dk_at dksX11_sum_1 0 rfl rfl)
theorem dX11_sum_25 : decode cX11_sum 25 = .ok (.getfield 11, 3) := dk_180 0 11 (dk_at dksX11_sum_1 1 rfl rfl)
theorem dX11_sum_28 : decode cX11_sum 28 = .ok (.iconst 0, 1) := dk_3 (dk_at dksX11_sum_1 4 rfl rfl)
theorem dX11_sum_29 : decode cX11_sum 29 = .ok (.invokevirtual 233, 3) := dk_182 0 233 (dk_at dksX11_sum_1 5 rfl rfl)
theorem dX11_sum_32 : decode cX11_sum 32 = .ok (.istore_n 3, 1) := dk_62 (dk_at dksX11_sum_1 8 rfl rfl)
theorem dX11_sum_33 : decode cX11_sum 33 = .ok (.aload_n 0, 1) := dk_42 (dk_at dksX11_sum_1 9 rfl rfl)
theorem dX11_sum_34 : decode cX11_sum 34 = .ok (.invokevirtual 32, 3) := dk_182 0 32 (dk_at dksX11_sum_1 10 rfl rfl)
theorem dX11_sum_37 : decode cX11_sum 37 = .ok (.new 216, 3) := dk_187 0 216 (dk_at dksX11_sum_1 13 rfl rfl)
theorem dX11_sum_40 : decode cX11_sum 40 = .ok (.dup, 1) := dk_89 (dk_at dksX11_sum_1 16 rfl rfl)
theorem dX11_sum_41 : decode cX11_sum 41 = .ok (.iload_n 3, 1) := dk_29 (dk_at dksX11_sum_1 17 rfl rfl)
theorem dX11_sum_42 : decode cX11_sum 42 = .ok (.aload_n 2, 1) := dk_44 (dk_at dksX11_sum_1 18 rfl rfl)
theorem dX11_sum_43 : decode cX11_sum 43 = .ok (.aload_n 0, 1) := dk_42 (dk_at dksX11_sum_1 19 rfl rfl)
theorem dX11_sum_44 : decode cX11_sum 44 = .ok (.iload_n 1, 1) := dk_27 (dk_at dksX11_sum_1 20 rfl rfl)
theorem dX11_sum_45 : decode cX11_sum 45 = .ok (.invokevirtual 242, 3) := dk_182 0 242 (dk_at dksX11_sum_1 21 rfl rfl)
theorem dX11_sum_48 : decode cX11_sum 48 = .ok (.invokespecial 218, 3) := dk_183 0 218 (dk_at dksX11_sum_2 0 rfl rfl)
theorem dX11_sum_51 : decode cX11_sum 51 = .ok (.astore_n 2, 1) := dk_77 (dk_at dksX11_sum_2 3 rfl rfl)
theorem dX11_sum_52 : decode cX11_sum 52 = .ok (.goto (-46), 3) := dk_167 255 210 (dk_at dksX11_sum_2 4 rfl rfl)
theorem dX11_sum_55 : decode cX11_sum 55 = .ok (.aload_n 2, 1) := dk_44 (dk_at dksX11_sum_2 7 rfl rfl)
theorem dX11_sum_56 : decode cX11_sum 56 = .ok (.areturn, 1) := dk_176 (dk_at dksX11_sum_2 8 rfl rfl)
abbrev cX11_product : ByteArray := prog_13_method_18_code
def yX11_product : MethodName := ⟨RX11, "product", "(I)LCircuitCells$Expr;"⟩
def dkwX11_product_2 : List UInt8 := [183, 0, 218, 77, 167, 255, 210, 44, 176]
abbrev dktX11_product_2 : List UInt8 := dkwX11_product_2 ++ []
def dkwX11_product_1 : List UInt8 := [42, 180, 0, 11, 3, 182, 0, 233, 62, 42, 182, 0, 32, 187, 0, 216, 89, 29, 44, 42, 27, 182, 0, 247]
abbrev dktX11_product_1 : List UInt8 := dkwX11_product_1 ++ dktX11_product_2
def dkwX11_product_0 : List UInt8 := [42, 27, 182, 0, 247, 77, 42, 18, 250, 182, 0, 115, 154, 0, 12, 42, 18, 252, 182, 0, 115, 153, 0, 34]
abbrev dktX11_product_0 : List UInt8 := dkwX11_product_0 ++ dktX11_product_1
theorem dksX11_product_0 : cX11_product.data.toList.drop 0 = dktX11_product_0 := by decide +kernel
theorem dksX11_product_1 : cX11_product.data.toList.drop 24 = dktX11_product_1 := dk_seg dksX11_product_0 24 rfl rfl
theorem dksX11_product_2 : cX11_product.data.toList.drop 48 = dktX11_product_2 := dk_seg dksX11_product_1 24 rfl rfl
theorem dX11_product_0 : decode cX11_product 0 = .ok (.aload_n 0, 1) := dk_42 (dk_at dksX11_product_0 0 rfl rfl)
theorem dX11_product_1 : decode cX11_product 1 = .ok (.iload_n 1, 1) := dk_27 (dk_at dksX11_product_0 1 rfl rfl)
theorem dX11_product_2 : decode cX11_product 2 = .ok (.invokevirtual 247, 3) := dk_182 0 247 (dk_at dksX11_product_0 2 rfl rfl)
theorem dX11_product_5 : decode cX11_product 5 = .ok (.astore_n 2, 1) := dk_77 (dk_at dksX11_product_0 5 rfl rfl)
theorem dX11_product_6 : decode cX11_product 6 = .ok (.aload_n 0, 1) := dk_42 (dk_at dksX11_product_0 6 rfl rfl)
theorem dX11_product_7 : decode cX11_product 7 = .ok (.ldc 250, 2) := dk_18 250 (dk_at dksX11_product_0 7 rfl rfl)
theorem dX11_product_9 : decode cX11_product 9 = .ok (.invokevirtual 115, 3) := dk_182 0 115 (dk_at dksX11_product_0 9 rfl rfl)
theorem dX11_product_12 : decode cX11_product 12 = .ok (.ifCond .ne 12, 3) := dk_154 0 12 (dk_at dksX11_product_0 12 rfl rfl)
theorem dX11_product_15 : decode cX11_product 15 = .ok (.aload_n 0, 1) := dk_42 (dk_at dksX11_product_0 15 rfl rfl)
theorem dX11_product_16 : decode cX11_product 16 = .ok (.ldc 252, 2) := dk_18 252 (dk_at dksX11_product_0 16 rfl rfl)
theorem dX11_product_18 : decode cX11_product 18 = .ok (.invokevirtual 115, 3) := dk_182 0 115 (dk_at dksX11_product_0 18 rfl rfl)
theorem dX11_product_21 : decode cX11_product 21 = .ok (.ifCond .eq 34, 3) := dk_153 0 34 (dk_at dksX11_product_0 21 rfl rfl)
theorem dX11_product_24 : decode cX11_product 24 = .ok (.aload_n 0, 1) := dk_42 (dk_at dksX11_product_1 0 rfl rfl)
theorem dX11_product_25 : decode cX11_product 25 = .ok (.getfield 11, 3) := dk_180 0 11 (dk_at dksX11_product_1 1 rfl rfl)
theorem dX11_product_28 : decode cX11_product 28 = .ok (.iconst 0, 1) := dk_3 (dk_at dksX11_product_1 4 rfl rfl)
theorem dX11_product_29 : decode cX11_product 29 = .ok (.invokevirtual 233, 3) := dk_182 0 233 (dk_at dksX11_product_1 5 rfl rfl)
theorem dX11_product_32 : decode cX11_product 32 = .ok (.istore_n 3, 1) := dk_62 (dk_at dksX11_product_1 8 rfl rfl)
theorem dX11_product_33 : decode cX11_product 33 = .ok (.aload_n 0, 1) := dk_42 (dk_at dksX11_product_1 9 rfl rfl)
theorem dX11_product_34 : decode cX11_product 34 = .ok (.invokevirtual 32, 3) := dk_182 0 32 (dk_at dksX11_product_1 10 rfl rfl)
theorem dX11_product_37 : decode cX11_product 37 = .ok (.new 216, 3) := dk_187 0 216 (dk_at dksX11_product_1 13 rfl rfl)
theorem dX11_product_40 : decode cX11_product 40 = .ok (.dup, 1) := dk_89 (dk_at dksX11_product_1 16 rfl rfl)
theorem dX11_product_41 : decode cX11_product 41 = .ok (.iload_n 3, 1) := dk_29 (dk_at dksX11_product_1 17 rfl rfl)
theorem dX11_product_42 : decode cX11_product 42 = .ok (.aload_n 2, 1) := dk_44 (dk_at dksX11_product_1 18 rfl rfl)
theorem dX11_product_43 : decode cX11_product 43 = .ok (.aload_n 0, 1) := dk_42 (dk_at dksX11_product_1 19 rfl rfl)
theorem dX11_product_44 : decode cX11_product 44 = .ok (.iload_n 1, 1) := dk_27 (dk_at dksX11_product_1 20 rfl rfl)
theorem dX11_product_45 : decode cX11_product 45 = .ok (.invokevirtual 247, 3) := dk_182 0 247 (dk_at dksX11_product_1 21 rfl rfl)
theorem dX11_product_48 : decode cX11_product 48 = .ok (.invokespecial 218, 3) := dk_183 0 218 (dk_at dksX11_product_2 0 rfl rfl)
theorem dX11_product_51 : decode cX11_product 51 = .ok (.astore_n 2, 1) := dk_77 (dk_at dksX11_product_2 3 rfl rfl)
theorem dX11_product_52 : decode cX11_product 52 = .ok (.goto (-46), 3) := dk_167 255 210 (dk_at dksX11_product_2 4 rfl rfl)
theorem dX11_product_55 : decode cX11_product 55 = .ok (.aload_n 2, 1) := dk_44 (dk_at dksX11_product_2 7 rfl rfl)
theorem dX11_product_56 : decode cX11_product 56 = .ok (.areturn, 1) := dk_176 (dk_at dksX11_product_2 8 rfl rfl)
abbrev cX11_part : ByteArray := prog_13_method_19_code
def yX11_part : MethodName := ⟨RX11, "part", "(I)LCircuitCells$Expr;"⟩
def dkwX11_part_4 : List UInt8 := [167, 0, 4, 3, 6, 182, 0, 119, 42, 182, 0, 32, 187, 1, 6, 89, 44, 183, 1, 8, 176]
abbrev dktX11_part_4 : List UInt8 := dkwX11_part_4 ++ []
def dkwX11_part_3 : List UInt8 := [167, 0, 4, 3, 4, 182, 0, 119, 42, 42, 180, 0, 11, 182, 1, 3, 77, 42, 44, 198, 0, 7, 4]
abbrev dktX11_part_3 : List UInt8 := dkwX11_part_3 ++ dktX11_part_4
def dkwX11_part_2 : List UInt8 := [77, 42, 19, 1, 1, 182, 0, 138, 44, 176, 42, 42, 180, 0, 55, 178, 0, 79, 166, 0, 7, 4]
abbrev dktX11_part_2 : List UInt8 := dkwX11_part_2 ++ dktX11_part_3
def dkwX11_part_1 : List UInt8 := [183, 1, 0, 176, 42, 18, 209, 182, 0, 115, 153, 0, 24, 42, 182, 0, 32, 42, 27, 4, 96, 182, 0, 200]
abbrev dktX11_part_1 : List UInt8 := dkwX11_part_1 ++ dktX11_part_2
def dkwX11_part_0 : List UInt8 := [42, 180, 0, 55, 178, 0, 88, 166, 0, 19, 187, 0, 254, 89, 42, 3, 17, 39, 15, 182, 0, 164]
abbrev dktX11_part_0 : List UInt8 := dkwX11_part_0 ++ dktX11_part_1
theorem dksX11_part_0 : cX11_part.data.toList.drop 0 = dktX11_part_0 := by decide +kernel
theorem dksX11_part_1 : cX11_part.data.toList.drop 22 = dktX11_part_1 := dk_seg dksX11_part_0 22 rfl rfl
theorem dksX11_part_2 : cX11_part.data.toList.drop 46 = dktX11_part_2 := dk_seg dksX11_part_1 24 rfl rfl
theorem dksX11_part_3 : cX11_part.data.toList.drop 68 = dktX11_part_3 := dk_seg dksX11_part_2 22 rfl rfl
theorem dksX11_part_4 : cX11_part.data.toList.drop 91 = dktX11_part_4 := dk_seg dksX11_part_3 23 rfl rfl
theorem dX11_part_0 : decode cX11_part 0 = .ok (.aload_n 0, 1) := dk_42 (dk_at dksX11_part_0 0 rfl rfl)
theorem dX11_part_1 : decode cX11_part 1 = .ok (.getfield 55, 3) := dk_180 0 55 (dk_at dksX11_part_0 1 rfl rfl)
theorem dX11_part_4 : decode cX11_part 4 = .ok (.getstatic 88, 3) := dk_178 0 88 (dk_at dksX11_part_0 4 rfl rfl)
theorem dX11_part_7 : decode cX11_part 7 = .ok (.if_acmp .ne 19, 3) := dk_166 0 19 (dk_at dksX11_part_0 7 rfl rfl)
theorem dX11_part_10 : decode cX11_part 10 = .ok (.new 254, 3) := dk_187 0 254 (dk_at dksX11_part_0 10 rfl rfl)
theorem dX11_part_13 : decode cX11_part 13 = .ok (.dup, 1) := dk_89 (dk_at dksX11_part_0 13 rfl rfl)
theorem dX11_part_14 : decode cX11_part 14 = .ok (.aload_n 0, 1) := dk_42 (dk_at dksX11_part_0 14 rfl rfl)
theorem dX11_part_15 : decode cX11_part 15 = .ok (.iconst 0, 1) := dk_3 (dk_at dksX11_part_0 15 rfl rfl)
theorem dX11_part_16 : decode cX11_part 16 = .ok (.sipush 9999, 3) := dk_17 39 15 (dk_at dksX11_part_0 16 rfl rfl)
theorem dX11_part_19 : decode cX11_part 19 = .ok (.invokevirtual 164, 3) := dk_182 0 164 (dk_at dksX11_part_0 19 rfl rfl)
theorem dX11_part_22 : decode cX11_part 22 = .ok (.invokespecial 256, 3) := dk_183 1 0 (dk_at dksX11_part_1 0 rfl rfl)
theorem dX11_part_25 : decode cX11_part 25 = .ok (.areturn, 1) := dk_176 (dk_at dksX11_part_1 3 rfl rfl)
theorem dX11_part_26 : decode cX11_part 26 = .ok (.aload_n 0, 1) := dk_42 (dk_at dksX11_part_1 4 rfl rfl)
theorem dX11_part_27 : decode cX11_part 27 = .ok (.ldc 209, 2) := dk_18 209 (dk_at dksX11_part_1 5 rfl rfl)
theorem dX11_part_29 : decode cX11_part 29 = .ok (.invokevirtual 115, 3) := dk_182 0 115 (dk_at dksX11_part_1 7 rfl rfl)
theorem dX11_part_32 : decode cX11_part 32 = .ok (.ifCond .eq 24, 3) := dk_153 0 24 (dk_at dksX11_part_1 10 rfl rfl)
theorem dX11_part_35 : decode cX11_part 35 = .ok (.aload_n 0, 1) := dk_42 (dk_at dksX11_part_1 13 rfl rfl)
theorem dX11_part_36 : decode cX11_part 36 = .ok (.invokevirtual 32, 3) := dk_182 0 32 (dk_at dksX11_part_1 14 rfl rfl)
theorem dX11_part_39 : decode cX11_part 39 = .ok (.aload_n 0, 1) := dk_42 (dk_at dksX11_part_1 17 rfl rfl)
theorem dX11_part_40 : decode cX11_part 40 = .ok (.iload_n 1, 1) := dk_27 (dk_at dksX11_part_1 18 rfl rfl)
theorem dX11_part_41 : decode cX11_part 41 = .ok (.iconst 1, 1) := dk_4 (dk_at dksX11_part_1 19 rfl rfl)
theorem dX11_part_42 : decode cX11_part 42 = .ok (.iadd, 1) := dk_96 (dk_at dksX11_part_1 20 rfl rfl)
theorem dX11_part_43 : decode cX11_part 43 = .ok (.invokevirtual 200, 3) := dk_182 0 200 (dk_at dksX11_part_1 21 rfl rfl)
theorem dX11_part_46 : decode cX11_part 46 = .ok (.astore_n 2, 1) := dk_77 (dk_at dksX11_part_2 0 rfl rfl)
theorem dX11_part_47 : decode cX11_part 47 = .ok (.aload_n 0, 1) := dk_42 (dk_at dksX11_part_2 1 rfl rfl)
theorem dX11_part_48 : decode cX11_part 48 = .ok (.ldc_w 257, 3) := dk_19 1 1 (dk_at dksX11_part_2 2 rfl rfl)
theorem dX11_part_51 : decode cX11_part 51 = .ok (.invokevirtual 138, 3) := dk_182 0 138 (dk_at dksX11_part_2 5 rfl rfl)
theorem dX11_part_54 : decode cX11_part 54 = .ok (.aload_n 2, 1) := dk_44 (dk_at dksX11_part_2 8 rfl rfl)
theorem dX11_part_55 : decode cX11_part 55 = .ok (.areturn, 1) := dk_176 (dk_at dksX11_part_2 9 rfl rfl)
theorem dX11_part_56 : decode cX11_part 56 = .ok (.aload_n 0, 1) := dk_42 (dk_at dksX11_part_2 10 rfl rfl)
theorem dX11_part_57 : decode cX11_part 57 = .ok (.aload_n 0, 1) := dk_42 (dk_at dksX11_part_2 11 rfl rfl)
theorem dX11_part_58 : decode cX11_part 58 = .ok (.getfield 55, 3) := dk_180 0 55 (dk_at dksX11_part_2 12 rfl rfl)
theorem dX11_part_61 : decode cX11_part 61 = .ok (.getstatic 79, 3) := dk_178 0 79 (dk_at dksX11_part_2 15 rfl rfl)
theorem dX11_part_64 : decode cX11_part 64 = .ok (.if_acmp .ne 7, 3) := dk_166 0 7 (dk_at dksX11_part_2 18 rfl rfl)
theorem dX11_part_67 : decode cX11_part 67 = .ok (.iconst 1, 1) := dk_4 (dk_at dksX11_part_2 21 rfl rfl)
theorem dX11_part_68 : decode cX11_part 68 = .ok (.goto 4, 3) := dk_167 0 4 (dk_at dksX11_part_3 0 rfl rfl)
theorem dX11_part_71 : decode cX11_part 71 = .ok (.iconst 0, 1) := dk_3 (dk_at dksX11_part_3 3 rfl rfl)
theorem dX11_part_72 : decode cX11_part 72 = .ok (.iconst 1, 1) := dk_4 (dk_at dksX11_part_3 4 rfl rfl)
theorem dX11_part_73 : decode cX11_part 73 = .ok (.invokevirtual 119, 3) := dk_182 0 119 (dk_at dksX11_part_3 5 rfl rfl)
theorem dX11_part_76 : decode cX11_part 76 = .ok (.aload_n 0, 1) := dk_42 (dk_at dksX11_part_3 8 rfl rfl)
theorem dX11_part_77 : decode cX11_part 77 = .ok (.aload_n 0, 1) := dk_42 (dk_at dksX11_part_3 9 rfl rfl)
theorem dX11_part_78 : decode cX11_part 78 = .ok (.getfield 11, 3) := dk_180 0 11 (dk_at dksX11_part_3 10 rfl rfl)
theorem dX11_part_81 : decode cX11_part 81 = .ok (.invokevirtual 259, 3) := dk_182 1 3 (dk_at dksX11_part_3 13 rfl rfl)
theorem dX11_part_84 : decode cX11_part 84 = .ok (.astore_n 2, 1) := dk_77 (dk_at dksX11_part_3 16 rfl rfl)
theorem dX11_part_85 : decode cX11_part 85 = .ok (.aload_n 0, 1) := dk_42 (dk_at dksX11_part_3 17 rfl rfl)
theorem dX11_part_86 : decode cX11_part 86 = .ok (.aload_n 2, 1) := dk_44 (dk_at dksX11_part_3 18 rfl rfl)
theorem dX11_part_87 : decode cX11_part 87 = .ok (.ifnull 7, 3) := dk_198 0 7 (dk_at dksX11_part_3 19 rfl rfl)
theorem dX11_part_90 : decode cX11_part 90 = .ok (.iconst 1, 1) := dk_4 (dk_at dksX11_part_3 22 rfl rfl)
theorem dX11_part_91 : decode cX11_part 91 = .ok (.goto 4, 3) := dk_167 0 4 (dk_at dksX11_part_4 0 rfl rfl)
theorem dX11_part_94 : decode cX11_part 94 = .ok (.iconst 0, 1) := dk_3 (dk_at dksX11_part_4 3 rfl rfl)
theorem dX11_part_95 : decode cX11_part 95 = .ok (.iconst 3, 1) := dk_6 (dk_at dksX11_part_4 4 rfl rfl)
theorem dX11_part_96 : decode cX11_part 96 = .ok (.invokevirtual 119, 3) := dk_182 0 119 (dk_at dksX11_part_4 5 rfl rfl)
theorem dX11_part_99 : decode cX11_part 99 = .ok (.aload_n 0, 1) := dk_42 (dk_at dksX11_part_4 8 rfl rfl)
theorem dX11_part_100 : decode cX11_part 100 = .ok (.invokevirtual 32, 3) := dk_182 0 32 (dk_at dksX11_part_4 9 rfl rfl)
theorem dX11_part_103 : decode cX11_part 103 = .ok (.new 262, 3) := dk_187 1 6 (dk_at dksX11_part_4 12 rfl rfl)
theorem dX11_part_106 : decode cX11_part 106 = .ok (.dup, 1) := dk_89 (dk_at dksX11_part_4 15 rfl rfl)
theorem dX11_part_107 : decode cX11_part 107 = .ok (.aload_n 2, 1) := dk_44 (dk_at dksX11_part_4 16 rfl rfl)
theorem dX11_part_108 : decode cX11_part 108 = .ok (.invokespecial 264, 3) := dk_183 1 8 (dk_at dksX11_part_4 17 rfl rfl)
theorem dX11_part_111 : decode cX11_part 111 = .ok (.areturn, 1) := dk_176 (dk_at dksX11_part_4 20 rfl rfl)
abbrev cX11_need : ByteArray := prog_13_method_9_code
def yX11_need : MethodName := ⟨RX11, "need", "(Ljava/lang/String;)V"⟩
def dkwX11_need_0 : List UInt8 := [42, 42, 43, 182, 0, 115, 4, 182, 0, 119, 42, 182, 0, 32, 177]
abbrev dktX11_need_0 : List UInt8 := dkwX11_need_0 ++ []
theorem dksX11_need_0 : cX11_need.data.toList.drop 0 = dktX11_need_0 := by decide +kernel
theorem dX11_need_0 : decode cX11_need 0 = .ok (.aload_n 0, 1) := dk_42 (dk_at dksX11_need_0 0 rfl rfl)
theorem dX11_need_1 : decode cX11_need 1 = .ok (.aload_n 0, 1) := dk_42 (dk_at dksX11_need_0 1 rfl rfl)
theorem dX11_need_2 : decode cX11_need 2 = .ok (.aload_n 1, 1) := dk_43 (dk_at dksX11_need_0 2 rfl rfl)
theorem dX11_need_3 : decode cX11_need 3 = .ok (.invokevirtual 115, 3) := dk_182 0 115 (dk_at dksX11_need_0 3 rfl rfl)
theorem dX11_need_6 : decode cX11_need 6 = .ok (.iconst 1, 1) := dk_4 (dk_at dksX11_need_0 6 rfl rfl)
theorem dX11_need_7 : decode cX11_need 7 = .ok (.invokevirtual 119, 3) := dk_182 0 119 (dk_at dksX11_need_0 7 rfl rfl)
theorem dX11_need_10 : decode cX11_need 10 = .ok (.aload_n 0, 1) := dk_42 (dk_at dksX11_need_0 10 rfl rfl)
theorem dX11_need_11 : decode cX11_need 11 = .ok (.invokevirtual 32, 3) := dk_182 0 32 (dk_at dksX11_need_0 11 rfl rfl)
theorem dX11_need_14 : decode cX11_need 14 = .ok (.return_, 1) := dk_177 (dk_at dksX11_need_0 14 rfl rfl)
abbrev cX11_valueOf : ByteArray := prog_13_method_20_code
def yX11_valueOf : MethodName := ⟨RX11, "valueOf", "(Ljava/lang/String;)LCircuitCells$Value;"⟩
def dkwX11_valueOf_7 : List UInt8 := [1, 176]
abbrev dktX11_valueOf_7 : List UInt8 := dkwX11_valueOf_7 ++ []
def dkwX11_valueOf_6 : List UInt8 := [178, 1, 19, 167, 0, 22, 178, 1, 25, 167, 0, 16, 178, 1, 28, 167, 0, 10, 178, 1, 31, 167, 0, 4]
abbrev dktX11_valueOf_6 : List UInt8 := dkwX11_valueOf_6 ++ dktX11_valueOf_7
def dkwX11_valueOf_5 : List UInt8 := [170, 0, 0, 0, 0, 54, 0, 0, 0, 0, 0, 0, 0, 3, 0, 0, 0, 30, 0, 0, 0, 36, 0, 0, 0, 42, 0, 0, 0, 48]
abbrev dktX11_valueOf_5 : List UInt8 := dkwX11_valueOf_5 ++ dktX11_valueOf_6
def dkwX11_valueOf_4 : List UInt8 := [19, 1, 17, 182, 0, 106, 153, 0, 5, 6, 62, 29]
abbrev dktX11_valueOf_4 : List UInt8 := dkwX11_valueOf_4 ++ dktX11_valueOf_5
def dkwX11_valueOf_3 : List UInt8 := [153, 0, 35, 4, 62, 167, 0, 30, 44, 19, 1, 15, 182, 0, 106, 153, 0, 20, 5, 62, 167, 0, 15, 44]
abbrev dktX11_valueOf_3 : List UInt8 := dkwX11_valueOf_3 ++ dktX11_valueOf_4
def dkwX11_valueOf_2 : List UInt8 := [44, 19, 1, 11, 182, 0, 106, 153, 0, 50, 3, 62, 167, 0, 45, 44, 19, 1, 13, 182, 0, 106]
abbrev dktX11_valueOf_2 : List UInt8 := dkwX11_valueOf_2 ++ dktX11_valueOf_3
def dkwX11_valueOf_1 : List UInt8 := [171, 0, 0, 0, 0, 0, 0, 101, 0, 0, 0, 4, 180, 56, 210, 143, 0, 0, 0, 89, 196, 164, 76, 136, 0, 0, 0, 44, 0, 50, 146, 150, 0, 0, 0, 74, 0, 54, 82, 205, 0, 0, 0, 59]
abbrev dktX11_valueOf_1 : List UInt8 := dkwX11_valueOf_1 ++ dktX11_valueOf_2
def dkwX11_valueOf_0 : List UInt8 := [43, 77, 2, 62, 44, 182, 0, 142]
abbrev dktX11_valueOf_0 : List UInt8 := dkwX11_valueOf_0 ++ dktX11_valueOf_1
theorem dksX11_valueOf_0 : cX11_valueOf.data.toList.drop 0 = dktX11_valueOf_0 := by decide +kernel
theorem dksX11_valueOf_1 : cX11_valueOf.data.toList.drop 8 = dktX11_valueOf_1 := dk_seg dksX11_valueOf_0 8 rfl rfl
theorem dksX11_valueOf_2 : cX11_valueOf.data.toList.drop 52 = dktX11_valueOf_2 := dk_seg dksX11_valueOf_1 44 rfl rfl
theorem dksX11_valueOf_3 : cX11_valueOf.data.toList.drop 74 = dktX11_valueOf_3 := dk_seg dksX11_valueOf_2 22 rfl rfl
theorem dksX11_valueOf_4 : cX11_valueOf.data.toList.drop 98 = dktX11_valueOf_4 := dk_seg dksX11_valueOf_3 24 rfl rfl
theorem dksX11_valueOf_5 : cX11_valueOf.data.toList.drop 110 = dktX11_valueOf_5 := dk_seg dksX11_valueOf_4 12 rfl rfl
theorem dksX11_valueOf_6 : cX11_valueOf.data.toList.drop 140 = dktX11_valueOf_6 := dk_seg dksX11_valueOf_5 30 rfl rfl
theorem dksX11_valueOf_7 : cX11_valueOf.data.toList.drop 164 = dktX11_valueOf_7 := dk_seg dksX11_valueOf_6 24 rfl rfl
theorem dX11_valueOf_0 : decode cX11_valueOf 0 = .ok (.aload_n 1, 1) := dk_43 (dk_at dksX11_valueOf_0 0 rfl rfl)
theorem dX11_valueOf_1 : decode cX11_valueOf 1 = .ok (.astore_n 2, 1) := dk_77 (dk_at dksX11_valueOf_0 1 rfl rfl)
theorem dX11_valueOf_2 : decode cX11_valueOf 2 = .ok (.iconst (-1), 1) := dk_2 (dk_at dksX11_valueOf_0 2 rfl rfl)
theorem dX11_valueOf_3 : decode cX11_valueOf 3 = .ok (.istore_n 3, 1) := dk_62 (dk_at dksX11_valueOf_0 3 rfl rfl)
theorem dX11_valueOf_4 : decode cX11_valueOf 4 = .ok (.aload_n 2, 1) := dk_44 (dk_at dksX11_valueOf_0 4 rfl rfl)
theorem dX11_valueOf_5 : decode cX11_valueOf 5 = .ok (.invokevirtual 142, 3) := dk_182 0 142 (dk_at dksX11_valueOf_0 5 rfl rfl)
theorem dX11_valueOf_8 : decode cX11_valueOf 8 = .ok (.lookupswitch 101 #[(-1271344497, 89), (-995865464, 44), (3314326, 74), (3560141, 59)], 44) := by decide +kernel
theorem dX11_valueOf_52 : decode cX11_valueOf 52 = .ok (.aload_n 2, 1) := dk_44 (dk_at dksX11_valueOf_2 0 rfl rfl)
theorem dX11_valueOf_53 : decode cX11_valueOf 53 = .ok (.ldc_w 267, 3) := dk_19 1 11 (dk_at dksX11_valueOf_2 1 rfl rfl)
theorem dX11_valueOf_56 : decode cX11_valueOf 56 = .ok (.invokevirtual 106, 3) := dk_182 0 106 (dk_at dksX11_valueOf_2 4 rfl rfl)
theorem dX11_valueOf_59 : decode cX11_valueOf 59 = .ok (.ifCond .eq 50, 3) := dk_153 0 50 (dk_at dksX11_valueOf_2 7 rfl rfl)
theorem dX11_valueOf_62 : decode cX11_valueOf 62 = .ok (.iconst 0, 1) := dk_3 (dk_at dksX11_valueOf_2 10 rfl rfl)
theorem dX11_valueOf_63 : decode cX11_valueOf 63 = .ok (.istore_n 3, 1) := dk_62 (dk_at dksX11_valueOf_2 11 rfl rfl)
theorem dX11_valueOf_64 : decode cX11_valueOf 64 = .ok (.goto 45, 3) := dk_167 0 45 (dk_at dksX11_valueOf_2 12 rfl rfl)
theorem dX11_valueOf_67 : decode cX11_valueOf 67 = .ok (.aload_n 2, 1) := dk_44 (dk_at dksX11_valueOf_2 15 rfl rfl)
theorem dX11_valueOf_68 : decode cX11_valueOf 68 = .ok (.ldc_w 269, 3) := dk_19 1 13 (dk_at dksX11_valueOf_2 16 rfl rfl)
theorem dX11_valueOf_71 : decode cX11_valueOf 71 = .ok (.invokevirtual 106, 3) := dk_182 0 106 (dk_at dksX11_valueOf_2 19 rfl rfl)
theorem dX11_valueOf_74 : decode cX11_valueOf 74 = .ok (.ifCond .eq 35, 3) := dk_153 0 35 (dk_at dksX11_valueOf_3 0 rfl rfl)
theorem dX11_valueOf_77 : decode cX11_valueOf 77 = .ok (.iconst 1, 1) := dk_4 (dk_at dksX11_valueOf_3 3 rfl rfl)
theorem dX11_valueOf_78 : decode cX11_valueOf 78 = .ok (.istore_n 3, 1) := dk_62 (dk_at dksX11_valueOf_3 4 rfl rfl)
theorem dX11_valueOf_79 : decode cX11_valueOf 79 = .ok (.goto 30, 3) := dk_167 0 30 (dk_at dksX11_valueOf_3 5 rfl rfl)
theorem dX11_valueOf_82 : decode cX11_valueOf 82 = .ok (.aload_n 2, 1) := dk_44 (dk_at dksX11_valueOf_3 8 rfl rfl)
theorem dX11_valueOf_83 : decode cX11_valueOf 83 = .ok (.ldc_w 271, 3) := dk_19 1 15 (dk_at dksX11_valueOf_3 9 rfl rfl)
theorem dX11_valueOf_86 : decode cX11_valueOf 86 = .ok (.invokevirtual 106, 3) := dk_182 0 106 (dk_at dksX11_valueOf_3 12 rfl rfl)
theorem dX11_valueOf_89 : decode cX11_valueOf 89 = .ok (.ifCond .eq 20, 3) := dk_153 0 20 (dk_at dksX11_valueOf_3 15 rfl rfl)
theorem dX11_valueOf_92 : decode cX11_valueOf 92 = .ok (.iconst 2, 1) := dk_5 (dk_at dksX11_valueOf_3 18 rfl rfl)
theorem dX11_valueOf_93 : decode cX11_valueOf 93 = .ok (.istore_n 3, 1) := dk_62 (dk_at dksX11_valueOf_3 19 rfl rfl)
theorem dX11_valueOf_94 : decode cX11_valueOf 94 = .ok (.goto 15, 3) := dk_167 0 15 (dk_at dksX11_valueOf_3 20 rfl rfl)
theorem dX11_valueOf_97 : decode cX11_valueOf 97 = .ok (.aload_n 2, 1) := dk_44 (dk_at dksX11_valueOf_3 23 rfl rfl)
theorem dX11_valueOf_98 : decode cX11_valueOf 98 = .ok (.ldc_w 273, 3) := dk_19 1 17 (dk_at dksX11_valueOf_4 0 rfl rfl)
theorem dX11_valueOf_101 : decode cX11_valueOf 101 = .ok (.invokevirtual 106, 3) := dk_182 0 106 (dk_at dksX11_valueOf_4 3 rfl rfl)
theorem dX11_valueOf_104 : decode cX11_valueOf 104 = .ok (.ifCond .eq 5, 3) := dk_153 0 5 (dk_at dksX11_valueOf_4 6 rfl rfl)
theorem dX11_valueOf_107 : decode cX11_valueOf 107 = .ok (.iconst 3, 1) := dk_6 (dk_at dksX11_valueOf_4 9 rfl rfl)
theorem dX11_valueOf_108 : decode cX11_valueOf 108 = .ok (.istore_n 3, 1) := dk_62 (dk_at dksX11_valueOf_4 10 rfl rfl)
theorem dX11_valueOf_109 : decode cX11_valueOf 109 = .ok (.iload_n 3, 1) := dk_29 (dk_at dksX11_valueOf_4 11 rfl rfl)
theorem dX11_valueOf_110 : decode cX11_valueOf 110 = .ok (.tableswitch 54 0 3 #[30, 36, 42, 48], 30) := by decide +kernel
theorem dX11_valueOf_140 : decode cX11_valueOf 140 = .ok (.getstatic 275, 3) := dk_178 1 19 (dk_at dksX11_valueOf_6 0 rfl rfl)
theorem dX11_valueOf_143 : decode cX11_valueOf 143 = .ok (.goto 22, 3) := dk_167 0 22 (dk_at dksX11_valueOf_6 3 rfl rfl)
theorem dX11_valueOf_146 : decode cX11_valueOf 146 = .ok (.getstatic 281, 3) := dk_178 1 25 (dk_at dksX11_valueOf_6 6 rfl rfl)
theorem dX11_valueOf_149 : decode cX11_valueOf 149 = .ok (.goto 16, 3) := dk_167 0 16 (dk_at dksX11_valueOf_6 9 rfl rfl)
theorem dX11_valueOf_152 : decode cX11_valueOf 152 = .ok (.getstatic 284, 3) := dk_178 1 28 (dk_at dksX11_valueOf_6 12 rfl rfl)
theorem dX11_valueOf_155 : decode cX11_valueOf 155 = .ok (.goto 10, 3) := dk_167 0 10 (dk_at dksX11_valueOf_6 15 rfl rfl)
theorem dX11_valueOf_158 : decode cX11_valueOf 158 = .ok (.getstatic 287, 3) := dk_178 1 31 (dk_at dksX11_valueOf_6 18 rfl rfl)
theorem dX11_valueOf_161 : decode cX11_valueOf 161 = .ok (.goto 4, 3) := dk_167 0 4 (dk_at dksX11_valueOf_6 21 rfl rfl)
theorem dX11_valueOf_164 : decode cX11_valueOf 164 = .ok (.aconst_null, 1) := dk_1 (dk_at dksX11_valueOf_7 0 rfl rfl)
theorem dX11_valueOf_165 : decode cX11_valueOf 165 = .ok (.areturn, 1) := dk_176 (dk_at dksX11_valueOf_7 1 rfl rfl)
theorem q148 : (Jvm.Cond.initialized "CircuitCells$Reader") ∈ lw_all := lw_g (lw_at lw_m1 33 rfl) rfl
theorem q561 : (Jvm.Cond.fieldLinkNest "CircuitCells$Reader" (168 : Nat) "CircuitCells$Line" "size" "I" "CircuitCells") ∈ lw_tbl := lw_at lw_m2 206 rfl
theorem q564 : (Jvm.Cond.fieldLinkNest "CircuitCells$Reader" (169 : Nat) "CircuitCells$Line" "target" "I" "CircuitCells") ∈ lw_tbl := lw_at lw_m2 209 rfl
theorem q567 : (Jvm.Cond.fieldLinkNest "CircuitCells$Reader" (171 : Nat) "CircuitCells$Line" "gainP" "I" "CircuitCells") ∈ lw_tbl := lw_at lw_m2 212 rfl
theorem q570 : (Jvm.Cond.fieldLinkNest "CircuitCells$Reader" (174 : Nat) "CircuitCells$Line" "gainI" "I" "CircuitCells") ∈ lw_tbl := lw_at lw_m2 215 rfl
theorem q573 : (Jvm.Cond.fieldLinkNest "CircuitCells$Reader" (177 : Nat) "CircuitCells$Line" "every" "I" "CircuitCells") ∈ lw_tbl := lw_at lw_m2 218 rfl
theorem q576 : (Jvm.Cond.fieldLinkNest "CircuitCells$Reader" (181 : Nat) "CircuitCells$Line" "offset" "I" "CircuitCells") ∈ lw_tbl := lw_at lw_m2 221 rfl
theorem q579 : (Jvm.Cond.fieldLinkNest "CircuitCells$Reader" (183 : Nat) "CircuitCells$Line" "frame" "I" "CircuitCells") ∈ lw_tbl := lw_at lw_m2 224 rfl
theorem q582 : (Jvm.Cond.fieldLinkNest "CircuitCells$Reader" (185 : Nat) "CircuitCells$Line" "word" "Ljava/util/ArrayList;" "CircuitCells") ∈ lw_tbl := lw_at lw_m2 227 rfl
theorem q584 : (Jvm.Cond.fieldLinkNest "CircuitCells$Reader" (204 : Nat) "CircuitCells$Line" "delay" "LCircuitCells$Expr;" "CircuitCells") ∈ lw_tbl := lw_at lw_m2 229 rfl
theorem q586 : (Jvm.Cond.fieldLinkNest "CircuitCells$Reader" (207 : Nat) "CircuitCells$Line" "lost" "LCircuitCells$Expr;" "CircuitCells") ∈ lw_tbl := lw_at lw_m2 231 rfl
theorem q860 : (Jvm.Cond.selects "CircuitCells$Reader" ({ cls := "java/lang/Object", name := "getClass", desc := "()Ljava/lang/Class;" } : Jvm.MethodName) ({ cls := "java/lang/Object", name := "getClass", desc := "()Ljava/lang/Class;" } : Jvm.MethodName)) ∈ lw_all := lw_g (lw_at lw_m4 25 rfl) rfl
theorem q1375 : (Jvm.Cond.instantiable "CircuitCells$Reader" (9 : Nat)) ∈ lw_all := lw_g (lw_at lw_m6 60 rfl) rfl
theorem q1377 : (Jvm.Cond.instanceMethod ({ cls := "CircuitCells$Reader", name := "<init>", desc := "([BI)V" } : Jvm.MethodName)) ∈ lw_all := lw_g (lw_at lw_m6 62 rfl) rfl
theorem q1378 : (Jvm.Cond.code ({ cls := "CircuitCells$Reader", name := "<init>", desc := "([BI)V" } : Jvm.MethodName) prog_13_method_1_code (3 : Nat) (Option.none : Option Jvm.ClassFile.FieldType)) ∈ lw_all := lw_g (lw_at lw_m6 63 rfl) rfl
theorem q1379 : (Jvm.Cond.methodLink "CircuitCells$Reader" (3 : Nat) ({ cls := "java/lang/Object", name := "<init>", desc := "()V" } : Jvm.MethodName)) ∈ lw_all := lw_g (lw_at lw_m6 64 rfl) rfl
theorem q1380 : (Jvm.Cond.stringRef "CircuitCells$Reader" (9 : Nat) "") ∈ lw_tbl := lw_at lw_m6 65 rfl
theorem q1381 : (Jvm.Cond.classLink "CircuitCells$Reader" (17 : Nat) "java/util/BitSet") ∈ lw_all := lw_g (lw_at lw_m6 66 rfl) rfl
theorem q1382 : (Jvm.Cond.methodLink "CircuitCells$Reader" (19 : Nat) ({ cls := "java/util/BitSet", name := "<init>", desc := "()V" } : Jvm.MethodName)) ∈ lw_all := lw_g (lw_at lw_m6 67 rfl) rfl
theorem q1385 : (Jvm.Cond.methodLink "CircuitCells$Reader" (32 : Nat) ({ cls := "CircuitCells$Reader", name := "go", desc := "()V" } : Jvm.MethodName)) ∈ lw_all := lw_g (lw_at lw_m6 70 rfl) rfl
theorem q1386 : (Jvm.Cond.privateMethod ({ cls := "CircuitCells$Reader", name := "go", desc := "()V" } : Jvm.MethodName)) ∈ lw_tbl := lw_at lw_m6 71 rfl
theorem q1387 : (Jvm.Cond.instanceMethod ({ cls := "CircuitCells$Reader", name := "go", desc := "()V" } : Jvm.MethodName)) ∈ lw_all := lw_g (lw_at lw_m6 72 rfl) rfl
theorem q1388 : (Jvm.Cond.code ({ cls := "CircuitCells$Reader", name := "go", desc := "()V" } : Jvm.MethodName) prog_13_method_6_code (3 : Nat) (Option.none : Option Jvm.ClassFile.FieldType)) ∈ lw_all := lw_g (lw_at lw_m6 73 rfl) rfl
theorem q1389 : (Jvm.Cond.methodLink "CircuitCells$Reader" (38 : Nat) ({ cls := "CircuitCells$Reader", name := "byteAt", desc := "(I)I" } : Jvm.MethodName)) ∈ lw_all := lw_g (lw_at lw_m6 74 rfl) rfl
theorem q1390 : (Jvm.Cond.privateMethod ({ cls := "CircuitCells$Reader", name := "byteAt", desc := "(I)I" } : Jvm.MethodName)) ∈ lw_tbl := lw_at lw_m6 75 rfl
theorem q1391 : (Jvm.Cond.instanceMethod ({ cls := "CircuitCells$Reader", name := "byteAt", desc := "(I)I" } : Jvm.MethodName)) ∈ lw_all := lw_g (lw_at lw_m6 76 rfl) rfl
theorem q1392 : (Jvm.Cond.code ({ cls := "CircuitCells$Reader", name := "byteAt", desc := "(I)I" } : Jvm.MethodName) prog_13_method_2_code (2 : Nat) (Option.some Jvm.ClassFile.FieldType.int)) ∈ lw_all := lw_g (lw_at lw_m6 77 rfl) rfl
theorem q1393 : (Jvm.Cond.fieldLink "CircuitCells$Reader" (49 : Nat) "CircuitCells$Sort" "END" "LCircuitCells$Sort;") ∈ lw_all := lw_g (lw_at lw_m6 78 rfl) rfl
theorem q1395 : (Jvm.Cond.methodLink "CircuitCells$Reader" (58 : Nat) ({ cls := "CircuitCells$Reader", name := "isLetter", desc := "(I)Z" } : Jvm.MethodName)) ∈ lw_all := lw_g (lw_at lw_m6 80 rfl) rfl
theorem q1396 : (Jvm.Cond.static ({ cls := "CircuitCells$Reader", name := "isLetter", desc := "(I)Z" } : Jvm.MethodName)) ∈ lw_all := lw_g (lw_at lw_m6 81 rfl) rfl
theorem q1397 : (Jvm.Cond.code ({ cls := "CircuitCells$Reader", name := "isLetter", desc := "(I)Z" } : Jvm.MethodName) prog_13_method_3_code (1 : Nat) (Option.some Jvm.ClassFile.FieldType.boolean)) ∈ lw_all := lw_g (lw_at lw_m6 82 rfl) rfl
theorem q1398 : (Jvm.Cond.classLink "CircuitCells$Reader" (62 : Nat) "java/lang/StringBuilder") ∈ lw_all := lw_g (lw_at lw_m6 83 rfl) rfl
theorem q1399 : (Jvm.Cond.methodLink "CircuitCells$Reader" (64 : Nat) ({ cls := "java/lang/StringBuilder", name := "<init>", desc := "(I)V" } : Jvm.MethodName)) ∈ lw_all := lw_g (lw_at lw_m6 84 rfl) rfl
theorem q1402 : (Jvm.Cond.methodLink "CircuitCells$Reader" (67 : Nat) ({ cls := "java/lang/StringBuilder", name := "length", desc := "()I" } : Jvm.MethodName)) ∈ lw_all := lw_g (lw_at lw_m6 87 rfl) rfl
theorem q1403 : (Jvm.Cond.methodLink "CircuitCells$Reader" (71 : Nat) ({ cls := "java/lang/StringBuilder", name := "append", desc := "(C)Ljava/lang/StringBuilder;" } : Jvm.MethodName)) ∈ lw_all := lw_g (lw_at lw_m6 88 rfl) rfl
theorem q1423 : (Jvm.Cond.methodLink "CircuitCells$Reader" (75 : Nat) ({ cls := "java/lang/StringBuilder", name := "toString", desc := "()Ljava/lang/String;" } : Jvm.MethodName)) ∈ lw_all := lw_g (lw_at lw_m6 108 rfl) rfl
theorem q1424 : (Jvm.Cond.fieldLink "CircuitCells$Reader" (79 : Nat) "CircuitCells$Sort" "WORD" "LCircuitCells$Sort;") ∈ lw_all := lw_g (lw_at lw_m6 109 rfl) rfl
theorem q1426 : (Jvm.Cond.methodLink "CircuitCells$Reader" (82 : Nat) ({ cls := "CircuitCells$Reader", name := "isDigit", desc := "(I)Z" } : Jvm.MethodName)) ∈ lw_all := lw_g (lw_at lw_m6 111 rfl) rfl
theorem q1427 : (Jvm.Cond.static ({ cls := "CircuitCells$Reader", name := "isDigit", desc := "(I)Z" } : Jvm.MethodName)) ∈ lw_all := lw_g (lw_at lw_m6 112 rfl) rfl
theorem q1428 : (Jvm.Cond.code ({ cls := "CircuitCells$Reader", name := "isDigit", desc := "(I)Z" } : Jvm.MethodName) prog_13_method_4_code (1 : Nat) (Option.some Jvm.ClassFile.FieldType.boolean)) ∈ lw_all := lw_g (lw_at lw_m6 113 rfl) rfl
theorem q1429 : (Jvm.Cond.fieldLink "CircuitCells$Reader" (88 : Nat) "CircuitCells$Sort" "NUMBER" "LCircuitCells$Sort;") ∈ lw_all := lw_g (lw_at lw_m6 114 rfl) rfl
theorem q1431 : (Jvm.Cond.methodLink "CircuitCells$Reader" (91 : Nat) ({ cls := "CircuitCells$Reader", name := "isSign", desc := "(I)Z" } : Jvm.MethodName)) ∈ lw_all := lw_g (lw_at lw_m6 116 rfl) rfl
theorem q1432 : (Jvm.Cond.static ({ cls := "CircuitCells$Reader", name := "isSign", desc := "(I)Z" } : Jvm.MethodName)) ∈ lw_all := lw_g (lw_at lw_m6 117 rfl) rfl
theorem q1433 : (Jvm.Cond.code ({ cls := "CircuitCells$Reader", name := "isSign", desc := "(I)Z" } : Jvm.MethodName) prog_13_method_5_code (1 : Nat) (Option.some Jvm.ClassFile.FieldType.boolean)) ∈ lw_all := lw_g (lw_at lw_m6 118 rfl) rfl
theorem q1434 : (Jvm.Cond.fieldLink "CircuitCells$Reader" (94 : Nat) "CircuitCells$Sort" "SIGN" "LCircuitCells$Sort;") ∈ lw_all := lw_g (lw_at lw_m6 119 rfl) rfl
theorem q1436 : (Jvm.Cond.fieldLink "CircuitCells$Reader" (97 : Nat) "CircuitCells$Sort" "BAD" "LCircuitCells$Sort;") ∈ lw_all := lw_g (lw_at lw_m6 121 rfl) rfl
theorem q1438 : (Jvm.Cond.methodLink "CircuitCells$Reader" (100 : Nat) ({ cls := "java/lang/String", name := "valueOf", desc := "(C)Ljava/lang/String;" } : Jvm.MethodName)) ∈ lw_all := lw_g (lw_at lw_m6 123 rfl) rfl
theorem q1452 : (Jvm.Cond.fieldLink "CircuitCells$Reader" (24 : Nat) "CircuitCells$Reader" "text" "[B") ∈ lw_all := lw_g (lw_at lw_m6 137 rfl) rfl
theorem q1453 : (Jvm.Cond.fieldLink "CircuitCells$Reader" (28 : Nat) "CircuitCells$Reader" "size" "I") ∈ lw_all := lw_g (lw_at lw_m6 138 rfl) rfl
theorem q1454 : (Jvm.Cond.fieldLink "CircuitCells$Reader" (35 : Nat) "CircuitCells$Reader" "next" "I") ∈ lw_all := lw_g (lw_at lw_m6 139 rfl) rfl
theorem q1455 : (Jvm.Cond.fieldLink "CircuitCells$Reader" (42 : Nat) "CircuitCells$Reader" "place" "I") ∈ lw_all := lw_g (lw_at lw_m6 140 rfl) rfl
theorem q1456 : (Jvm.Cond.fieldLink "CircuitCells$Reader" (85 : Nat) "CircuitCells$Reader" "value" "I") ∈ lw_all := lw_g (lw_at lw_m6 141 rfl) rfl
theorem q1457 : (Jvm.Cond.fieldLink "CircuitCells$Reader" (45 : Nat) "CircuitCells$Reader" "isLong" "Z") ∈ lw_all := lw_g (lw_at lw_m6 142 rfl) rfl
theorem q1458 : (Jvm.Cond.fieldLink "CircuitCells$Reader" (55 : Nat) "CircuitCells$Reader" "sort" "LCircuitCells$Sort;") ∈ lw_all := lw_g (lw_at lw_m6 143 rfl) rfl
theorem q1459 : (Jvm.Cond.fieldLink "CircuitCells$Reader" (11 : Nat) "CircuitCells$Reader" "word" "Ljava/lang/String;") ∈ lw_all := lw_g (lw_at lw_m6 144 rfl) rfl
theorem q1460 : (Jvm.Cond.fieldLink "CircuitCells$Reader" (20 : Nat) "CircuitCells$Reader" "told" "Ljava/util/BitSet;") ∈ lw_all := lw_g (lw_at lw_m6 145 rfl) rfl
theorem q1461 : (Jvm.Cond.laysFinal "CircuitCells$Reader" "CircuitCells$Reader" "text" "[B") ∈ lw_all := lw_g (lw_at lw_m6 146 rfl) rfl
theorem q1462 : (Jvm.Cond.soleField "CircuitCells$Reader" "text") ∈ lw_all := lw_g (lw_at lw_m6 147 rfl) rfl
theorem q1463 : (Jvm.Cond.laysFinal "CircuitCells$Reader" "CircuitCells$Reader" "size" "I") ∈ lw_all := lw_g (lw_at lw_m6 148 rfl) rfl
theorem q1464 : (Jvm.Cond.soleField "CircuitCells$Reader" "size") ∈ lw_all := lw_g (lw_at lw_m6 149 rfl) rfl
theorem q1465 : (Jvm.Cond.lays "CircuitCells$Reader" "CircuitCells$Reader" "next" "I") ∈ lw_all := lw_g (lw_at lw_m6 150 rfl) rfl
theorem q1466 : (Jvm.Cond.soleField "CircuitCells$Reader" "next") ∈ lw_all := lw_g (lw_at lw_m6 151 rfl) rfl
theorem q1467 : (Jvm.Cond.lays "CircuitCells$Reader" "CircuitCells$Reader" "place" "I") ∈ lw_all := lw_g (lw_at lw_m6 152 rfl) rfl
theorem q1468 : (Jvm.Cond.soleField "CircuitCells$Reader" "place") ∈ lw_all := lw_g (lw_at lw_m6 153 rfl) rfl
theorem q1469 : (Jvm.Cond.lays "CircuitCells$Reader" "CircuitCells$Reader" "value" "I") ∈ lw_all := lw_g (lw_at lw_m6 154 rfl) rfl
theorem q1470 : (Jvm.Cond.soleField "CircuitCells$Reader" "value") ∈ lw_all := lw_g (lw_at lw_m6 155 rfl) rfl
theorem q1471 : (Jvm.Cond.lays "CircuitCells$Reader" "CircuitCells$Reader" "isLong" "Z") ∈ lw_all := lw_g (lw_at lw_m6 156 rfl) rfl
theorem q1472 : (Jvm.Cond.soleField "CircuitCells$Reader" "isLong") ∈ lw_all := lw_g (lw_at lw_m6 157 rfl) rfl
theorem q1473 : (Jvm.Cond.lays "CircuitCells$Reader" "CircuitCells$Reader" "sort" "LCircuitCells$Sort;") ∈ lw_all := lw_g (lw_at lw_m6 158 rfl) rfl
theorem q1474 : (Jvm.Cond.soleField "CircuitCells$Reader" "sort") ∈ lw_all := lw_g (lw_at lw_m6 159 rfl) rfl
theorem q1475 : (Jvm.Cond.lays "CircuitCells$Reader" "CircuitCells$Reader" "word" "Ljava/lang/String;") ∈ lw_all := lw_g (lw_at lw_m6 160 rfl) rfl
theorem q1476 : (Jvm.Cond.soleField "CircuitCells$Reader" "word") ∈ lw_all := lw_g (lw_at lw_m6 161 rfl) rfl
theorem q1477 : (Jvm.Cond.laysFinal "CircuitCells$Reader" "CircuitCells$Reader" "told" "Ljava/util/BitSet;") ∈ lw_all := lw_g (lw_at lw_m6 162 rfl) rfl
theorem q1478 : (Jvm.Cond.soleField "CircuitCells$Reader" "told") ∈ lw_all := lw_g (lw_at lw_m6 163 rfl) rfl
theorem q1479 : (Jvm.Cond.superclass "CircuitCells$Reader" "java/lang/Object") ∈ lw_all := lw_g (lw_at lw_m6 164 rfl) rfl
theorem q1481 : (Jvm.Cond.instanceMethod ({ cls := "CircuitCells$Reader", name := "whole", desc := "()LCircuitCells$Line;" } : Jvm.MethodName)) ∈ lw_all := lw_g (lw_at lw_m6 166 rfl) rfl
theorem q1482 : (Jvm.Cond.selects "CircuitCells$Reader" ({ cls := "CircuitCells$Reader", name := "whole", desc := "()LCircuitCells$Line;" } : Jvm.MethodName) ({ cls := "CircuitCells$Reader", name := "whole", desc := "()LCircuitCells$Line;" } : Jvm.MethodName)) ∈ lw_all := lw_g (lw_at lw_m6 167 rfl) rfl
theorem q1483 : (Jvm.Cond.code ({ cls := "CircuitCells$Reader", name := "whole", desc := "()LCircuitCells$Line;" } : Jvm.MethodName) prog_13_method_12_code (2 : Nat) (Option.some (Jvm.ClassFile.FieldType.object "CircuitCells$Line"))) ∈ lw_all := lw_g (lw_at lw_m6 168 rfl) rfl
theorem q1484 : (Jvm.Cond.classLink "CircuitCells$Reader" (129 : Nat) "CircuitCells$Line") ∈ lw_all := lw_g (lw_at lw_m6 169 rfl) rfl
theorem q1485 : (Jvm.Cond.methodLinkNest "CircuitCells$Reader" (131 : Nat) ({ cls := "CircuitCells$Line", name := "<init>", desc := "()V" } : Jvm.MethodName) "CircuitCells") ∈ lw_tbl := lw_at lw_m6 170 rfl
theorem q1486 : (Jvm.Cond.methodLink "CircuitCells$Reader" (132 : Nat) ({ cls := "CircuitCells$Reader", name := "clause", desc := "(LCircuitCells$Line;)V" } : Jvm.MethodName)) ∈ lw_all := lw_g (lw_at lw_m6 171 rfl) rfl
theorem q1487 : (Jvm.Cond.privateMethod ({ cls := "CircuitCells$Reader", name := "clause", desc := "(LCircuitCells$Line;)V" } : Jvm.MethodName)) ∈ lw_tbl := lw_at lw_m6 172 rfl
theorem q1488 : (Jvm.Cond.instanceMethod ({ cls := "CircuitCells$Reader", name := "clause", desc := "(LCircuitCells$Line;)V" } : Jvm.MethodName)) ∈ lw_all := lw_g (lw_at lw_m6 173 rfl) rfl
theorem q1489 : (Jvm.Cond.code ({ cls := "CircuitCells$Reader", name := "clause", desc := "(LCircuitCells$Line;)V" } : Jvm.MethodName) prog_13_method_13_code (5 : Nat) (Option.none : Option Jvm.ClassFile.FieldType)) ∈ lw_all := lw_g (lw_at lw_m6 174 rfl) rfl
theorem q1490 : (Jvm.Cond.methodLink "CircuitCells$Reader" (119 : Nat) ({ cls := "CircuitCells$Reader", name := "check", desc := "(ZI)V" } : Jvm.MethodName)) ∈ lw_all := lw_g (lw_at lw_m6 175 rfl) rfl
theorem q1491 : (Jvm.Cond.privateMethod ({ cls := "CircuitCells$Reader", name := "check", desc := "(ZI)V" } : Jvm.MethodName)) ∈ lw_tbl := lw_at lw_m6 176 rfl
theorem q1492 : (Jvm.Cond.instanceMethod ({ cls := "CircuitCells$Reader", name := "check", desc := "(ZI)V" } : Jvm.MethodName)) ∈ lw_all := lw_g (lw_at lw_m6 177 rfl) rfl
theorem q1493 : (Jvm.Cond.code ({ cls := "CircuitCells$Reader", name := "check", desc := "(ZI)V" } : Jvm.MethodName) prog_13_method_8_code (3 : Nat) (Option.none : Option Jvm.ClassFile.FieldType)) ∈ lw_all := lw_g (lw_at lw_m6 178 rfl) rfl
theorem q1494 : (Jvm.Cond.classLink "CircuitCells$Reader" (110 : Nat) "CircuitCells$Fault") ∈ lw_all := lw_g (lw_at lw_m6 179 rfl) rfl
theorem q1503 : (Jvm.Cond.methodLink "CircuitCells$Reader" (112 : Nat) ({ cls := "CircuitCells$Fault", name := "<init>", desc := "(II)V" } : Jvm.MethodName)) ∈ lw_all := lw_g (lw_at lw_m6 188 rfl) rfl
theorem q1517 : (Jvm.Cond.methodLink "CircuitCells$Reader" (142 : Nat) ({ cls := "java/lang/String", name := "hashCode", desc := "()I" } : Jvm.MethodName)) ∈ lw_all := lw_g (lw_at lw_m6 202 rfl) rfl
theorem q1578 : (Jvm.Cond.stringRef "CircuitCells$Reader" (145 : Nat) "size") ∈ lw_tbl := lw_at lw_m7 23 rfl
theorem q1579 : (Jvm.Cond.methodLink "CircuitCells$Reader" (106 : Nat) ({ cls := "java/lang/String", name := "equals", desc := "(Ljava/lang/Object;)Z" } : Jvm.MethodName)) ∈ lw_all := lw_g (lw_at lw_m7 24 rfl) rfl
theorem q1586 : (Jvm.Cond.stringRef "CircuitCells$Reader" (146 : Nat) "target") ∈ lw_tbl := lw_at lw_m7 31 rfl
theorem q1587 : (Jvm.Cond.stringRef "CircuitCells$Reader" (148 : Nat) "gain") ∈ lw_tbl := lw_at lw_m7 32 rfl
theorem q1588 : (Jvm.Cond.stringRef "CircuitCells$Reader" (150 : Nat) "every") ∈ lw_tbl := lw_at lw_m7 33 rfl
theorem q1589 : (Jvm.Cond.stringRef "CircuitCells$Reader" (152 : Nat) "offset") ∈ lw_tbl := lw_at lw_m7 34 rfl
theorem q1590 : (Jvm.Cond.stringRef "CircuitCells$Reader" (154 : Nat) "frame") ∈ lw_tbl := lw_at lw_m7 35 rfl
theorem q1591 : (Jvm.Cond.stringRef "CircuitCells$Reader" (156 : Nat) "word") ∈ lw_tbl := lw_at lw_m7 36 rfl
theorem q1592 : (Jvm.Cond.stringRef "CircuitCells$Reader" (157 : Nat) "delay") ∈ lw_tbl := lw_at lw_m7 37 rfl
theorem q1593 : (Jvm.Cond.stringRef "CircuitCells$Reader" (159 : Nat) "lost") ∈ lw_tbl := lw_at lw_m7 38 rfl
theorem q1594 : (Jvm.Cond.methodLink "CircuitCells$Reader" (161 : Nat) ({ cls := "CircuitCells$Reader", name := "once", desc := "(I)V" } : Jvm.MethodName)) ∈ lw_all := lw_g (lw_at lw_m7 39 rfl) rfl
theorem q1595 : (Jvm.Cond.privateMethod ({ cls := "CircuitCells$Reader", name := "once", desc := "(I)V" } : Jvm.MethodName)) ∈ lw_tbl := lw_at lw_m7 40 rfl
theorem q1596 : (Jvm.Cond.instanceMethod ({ cls := "CircuitCells$Reader", name := "once", desc := "(I)V" } : Jvm.MethodName)) ∈ lw_all := lw_g (lw_at lw_m7 41 rfl) rfl
theorem q1597 : (Jvm.Cond.code ({ cls := "CircuitCells$Reader", name := "once", desc := "(I)V" } : Jvm.MethodName) prog_13_method_11_code (2 : Nat) (Option.none : Option Jvm.ClassFile.FieldType)) ∈ lw_all := lw_g (lw_at lw_m7 42 rfl) rfl
theorem q1598 : (Jvm.Cond.methodLink "CircuitCells$Reader" (123 : Nat) ({ cls := "java/util/BitSet", name := "get", desc := "(I)Z" } : Jvm.MethodName)) ∈ lw_all := lw_g (lw_at lw_m7 43 rfl) rfl
theorem q1602 : (Jvm.Cond.methodLink "CircuitCells$Reader" (126 : Nat) ({ cls := "java/util/BitSet", name := "set", desc := "(I)V" } : Jvm.MethodName)) ∈ lw_all := lw_g (lw_at lw_m7 47 rfl) rfl
theorem q1603 : (Jvm.Cond.methodLink "CircuitCells$Reader" (164 : Nat) ({ cls := "CircuitCells$Reader", name := "number", desc := "(II)I" } : Jvm.MethodName)) ∈ lw_all := lw_g (lw_at lw_m7 48 rfl) rfl
theorem q1604 : (Jvm.Cond.privateMethod ({ cls := "CircuitCells$Reader", name := "number", desc := "(II)I" } : Jvm.MethodName)) ∈ lw_tbl := lw_at lw_m7 49 rfl
theorem q1605 : (Jvm.Cond.instanceMethod ({ cls := "CircuitCells$Reader", name := "number", desc := "(II)I" } : Jvm.MethodName)) ∈ lw_all := lw_g (lw_at lw_m7 50 rfl) rfl
theorem q1606 : (Jvm.Cond.code ({ cls := "CircuitCells$Reader", name := "number", desc := "(II)I" } : Jvm.MethodName) prog_13_method_10_code (4 : Nat) (Option.some Jvm.ClassFile.FieldType.int)) ∈ lw_all := lw_g (lw_at lw_m7 51 rfl) rfl
theorem q1607 : (Jvm.Cond.stringRef "CircuitCells$Reader" (179 : Nat) "-") ∈ lw_tbl := lw_at lw_m7 52 rfl
theorem q1608 : (Jvm.Cond.methodLink "CircuitCells$Reader" (115 : Nat) ({ cls := "CircuitCells$Reader", name := "is", desc := "(Ljava/lang/String;)Z" } : Jvm.MethodName)) ∈ lw_all := lw_g (lw_at lw_m7 53 rfl) rfl
theorem q1609 : (Jvm.Cond.privateMethod ({ cls := "CircuitCells$Reader", name := "is", desc := "(Ljava/lang/String;)Z" } : Jvm.MethodName)) ∈ lw_tbl := lw_at lw_m7 54 rfl
theorem q1610 : (Jvm.Cond.instanceMethod ({ cls := "CircuitCells$Reader", name := "is", desc := "(Ljava/lang/String;)Z" } : Jvm.MethodName)) ∈ lw_all := lw_g (lw_at lw_m7 55 rfl) rfl
theorem q1611 : (Jvm.Cond.code ({ cls := "CircuitCells$Reader", name := "is", desc := "(Ljava/lang/String;)Z" } : Jvm.MethodName) prog_13_method_7_code (2 : Nat) (Option.some Jvm.ClassFile.FieldType.boolean)) ∈ lw_all := lw_g (lw_at lw_m7 56 rfl) rfl
theorem q1612 : (Jvm.Cond.methodLink "CircuitCells$Reader" (188 : Nat) ({ cls := "java/util/ArrayList", name := "size", desc := "()I" } : Jvm.MethodName)) ∈ lw_all := lw_g (lw_at lw_m7 57 rfl) rfl
theorem q1613 : (Jvm.Cond.methodLink "CircuitCells$Reader" (192 : Nat) ({ cls := "java/lang/Integer", name := "valueOf", desc := "(I)Ljava/lang/Integer;" } : Jvm.MethodName)) ∈ lw_all := lw_g (lw_at lw_m7 58 rfl) rfl
theorem q1633 : (Jvm.Cond.methodLink "CircuitCells$Reader" (197 : Nat) ({ cls := "java/util/ArrayList", name := "add", desc := "(Ljava/lang/Object;)Z" } : Jvm.MethodName)) ∈ lw_all := lw_g (lw_at lw_m7 78 rfl) rfl
theorem q1634 : (Jvm.Cond.methodLink "CircuitCells$Reader" (200 : Nat) ({ cls := "CircuitCells$Reader", name := "expr", desc := "(I)LCircuitCells$Expr;" } : Jvm.MethodName)) ∈ lw_all := lw_g (lw_at lw_m7 79 rfl) rfl
theorem q1635 : (Jvm.Cond.privateMethod ({ cls := "CircuitCells$Reader", name := "expr", desc := "(I)LCircuitCells$Expr;" } : Jvm.MethodName)) ∈ lw_tbl := lw_at lw_m7 80 rfl
theorem q1636 : (Jvm.Cond.instanceMethod ({ cls := "CircuitCells$Reader", name := "expr", desc := "(I)LCircuitCells$Expr;" } : Jvm.MethodName)) ∈ lw_all := lw_g (lw_at lw_m7 81 rfl) rfl
theorem q1637 : (Jvm.Cond.code ({ cls := "CircuitCells$Reader", name := "expr", desc := "(I)LCircuitCells$Expr;" } : Jvm.MethodName) prog_13_method_14_code (3 : Nat) (Option.some (Jvm.ClassFile.FieldType.object "CircuitCells$Expr"))) ∈ lw_all := lw_g (lw_at lw_m7 82 rfl) rfl
theorem q1638 : (Jvm.Cond.stringRef "CircuitCells$Reader" (209 : Nat) "(") ∈ lw_tbl := lw_at lw_m7 83 rfl
theorem q1639 : (Jvm.Cond.methodLink "CircuitCells$Reader" (211 : Nat) ({ cls := "CircuitCells$Reader", name := "and", desc := "(I)LCircuitCells$Expr;" } : Jvm.MethodName)) ∈ lw_all := lw_g (lw_at lw_m7 84 rfl) rfl
theorem q1640 : (Jvm.Cond.privateMethod ({ cls := "CircuitCells$Reader", name := "and", desc := "(I)LCircuitCells$Expr;" } : Jvm.MethodName)) ∈ lw_tbl := lw_at lw_m7 85 rfl
theorem q1641 : (Jvm.Cond.instanceMethod ({ cls := "CircuitCells$Reader", name := "and", desc := "(I)LCircuitCells$Expr;" } : Jvm.MethodName)) ∈ lw_all := lw_g (lw_at lw_m7 86 rfl) rfl
theorem q1642 : (Jvm.Cond.code ({ cls := "CircuitCells$Reader", name := "and", desc := "(I)LCircuitCells$Expr;" } : Jvm.MethodName) prog_13_method_15_code (3 : Nat) (Option.some (Jvm.ClassFile.FieldType.object "CircuitCells$Expr"))) ∈ lw_all := lw_g (lw_at lw_m7 87 rfl) rfl
theorem q1643 : (Jvm.Cond.methodLink "CircuitCells$Reader" (221 : Nat) ({ cls := "CircuitCells$Reader", name := "not", desc := "(I)LCircuitCells$Expr;" } : Jvm.MethodName)) ∈ lw_all := lw_g (lw_at lw_m7 88 rfl) rfl
theorem q1644 : (Jvm.Cond.privateMethod ({ cls := "CircuitCells$Reader", name := "not", desc := "(I)LCircuitCells$Expr;" } : Jvm.MethodName)) ∈ lw_tbl := lw_at lw_m7 89 rfl
theorem q1645 : (Jvm.Cond.instanceMethod ({ cls := "CircuitCells$Reader", name := "not", desc := "(I)LCircuitCells$Expr;" } : Jvm.MethodName)) ∈ lw_all := lw_g (lw_at lw_m7 90 rfl) rfl
theorem q1646 : (Jvm.Cond.code ({ cls := "CircuitCells$Reader", name := "not", desc := "(I)LCircuitCells$Expr;" } : Jvm.MethodName) prog_13_method_16_code (5 : Nat) (Option.some (Jvm.ClassFile.FieldType.object "CircuitCells$Expr"))) ∈ lw_all := lw_g (lw_at lw_m7 91 rfl) rfl
theorem q1647 : (Jvm.Cond.stringRef "CircuitCells$Reader" (225 : Nat) "not") ∈ lw_tbl := lw_at lw_m7 92 rfl
theorem q1648 : (Jvm.Cond.methodLink "CircuitCells$Reader" (226 : Nat) ({ cls := "CircuitCells$Reader", name := "sum", desc := "(I)LCircuitCells$Expr;" } : Jvm.MethodName)) ∈ lw_all := lw_g (lw_at lw_m7 93 rfl) rfl
theorem q1649 : (Jvm.Cond.privateMethod ({ cls := "CircuitCells$Reader", name := "sum", desc := "(I)LCircuitCells$Expr;" } : Jvm.MethodName)) ∈ lw_tbl := lw_at lw_m7 94 rfl
theorem q1650 : (Jvm.Cond.instanceMethod ({ cls := "CircuitCells$Reader", name := "sum", desc := "(I)LCircuitCells$Expr;" } : Jvm.MethodName)) ∈ lw_all := lw_g (lw_at lw_m7 95 rfl) rfl
theorem q1651 : (Jvm.Cond.code ({ cls := "CircuitCells$Reader", name := "sum", desc := "(I)LCircuitCells$Expr;" } : Jvm.MethodName) prog_13_method_17_code (4 : Nat) (Option.some (Jvm.ClassFile.FieldType.object "CircuitCells$Expr"))) ∈ lw_all := lw_g (lw_at lw_m7 96 rfl) rfl
theorem q1652 : (Jvm.Cond.methodLink "CircuitCells$Reader" (242 : Nat) ({ cls := "CircuitCells$Reader", name := "product", desc := "(I)LCircuitCells$Expr;" } : Jvm.MethodName)) ∈ lw_all := lw_g (lw_at lw_m7 97 rfl) rfl
theorem q1653 : (Jvm.Cond.privateMethod ({ cls := "CircuitCells$Reader", name := "product", desc := "(I)LCircuitCells$Expr;" } : Jvm.MethodName)) ∈ lw_tbl := lw_at lw_m7 98 rfl
theorem q1654 : (Jvm.Cond.instanceMethod ({ cls := "CircuitCells$Reader", name := "product", desc := "(I)LCircuitCells$Expr;" } : Jvm.MethodName)) ∈ lw_all := lw_g (lw_at lw_m7 99 rfl) rfl
theorem q1655 : (Jvm.Cond.code ({ cls := "CircuitCells$Reader", name := "product", desc := "(I)LCircuitCells$Expr;" } : Jvm.MethodName) prog_13_method_18_code (4 : Nat) (Option.some (Jvm.ClassFile.FieldType.object "CircuitCells$Expr"))) ∈ lw_all := lw_g (lw_at lw_m7 100 rfl) rfl
theorem q1656 : (Jvm.Cond.methodLink "CircuitCells$Reader" (247 : Nat) ({ cls := "CircuitCells$Reader", name := "part", desc := "(I)LCircuitCells$Expr;" } : Jvm.MethodName)) ∈ lw_all := lw_g (lw_at lw_m7 101 rfl) rfl
theorem q1657 : (Jvm.Cond.privateMethod ({ cls := "CircuitCells$Reader", name := "part", desc := "(I)LCircuitCells$Expr;" } : Jvm.MethodName)) ∈ lw_tbl := lw_at lw_m7 102 rfl
theorem q1658 : (Jvm.Cond.instanceMethod ({ cls := "CircuitCells$Reader", name := "part", desc := "(I)LCircuitCells$Expr;" } : Jvm.MethodName)) ∈ lw_all := lw_g (lw_at lw_m7 103 rfl) rfl
theorem q1659 : (Jvm.Cond.code ({ cls := "CircuitCells$Reader", name := "part", desc := "(I)LCircuitCells$Expr;" } : Jvm.MethodName) prog_13_method_19_code (3 : Nat) (Option.some (Jvm.ClassFile.FieldType.object "CircuitCells$Expr"))) ∈ lw_all := lw_g (lw_at lw_m7 104 rfl) rfl
theorem q1660 : (Jvm.Cond.classLink "CircuitCells$Reader" (254 : Nat) "CircuitCells$Told") ∈ lw_all := lw_g (lw_at lw_m7 105 rfl) rfl
theorem q1662 : (Jvm.Cond.methodLink "CircuitCells$Reader" (256 : Nat) ({ cls := "CircuitCells$Told", name := "<init>", desc := "(I)V" } : Jvm.MethodName)) ∈ lw_all := lw_g (lw_at lw_m7 107 rfl) rfl
theorem q1673 : (Jvm.Cond.stringRef "CircuitCells$Reader" (257 : Nat) ")") ∈ lw_tbl := lw_at lw_m7 118 rfl
theorem q1674 : (Jvm.Cond.methodLink "CircuitCells$Reader" (138 : Nat) ({ cls := "CircuitCells$Reader", name := "need", desc := "(Ljava/lang/String;)V" } : Jvm.MethodName)) ∈ lw_all := lw_g (lw_at lw_m7 119 rfl) rfl
theorem q1675 : (Jvm.Cond.privateMethod ({ cls := "CircuitCells$Reader", name := "need", desc := "(Ljava/lang/String;)V" } : Jvm.MethodName)) ∈ lw_tbl := lw_at lw_m7 120 rfl
theorem q1676 : (Jvm.Cond.instanceMethod ({ cls := "CircuitCells$Reader", name := "need", desc := "(Ljava/lang/String;)V" } : Jvm.MethodName)) ∈ lw_all := lw_g (lw_at lw_m7 121 rfl) rfl
theorem q1677 : (Jvm.Cond.code ({ cls := "CircuitCells$Reader", name := "need", desc := "(Ljava/lang/String;)V" } : Jvm.MethodName) prog_13_method_9_code (2 : Nat) (Option.none : Option Jvm.ClassFile.FieldType)) ∈ lw_all := lw_g (lw_at lw_m7 122 rfl) rfl
theorem q1678 : (Jvm.Cond.methodLink "CircuitCells$Reader" (259 : Nat) ({ cls := "CircuitCells$Reader", name := "valueOf", desc := "(Ljava/lang/String;)LCircuitCells$Value;" } : Jvm.MethodName)) ∈ lw_all := lw_g (lw_at lw_m7 123 rfl) rfl
theorem q1679 : (Jvm.Cond.privateMethod ({ cls := "CircuitCells$Reader", name := "valueOf", desc := "(Ljava/lang/String;)LCircuitCells$Value;" } : Jvm.MethodName)) ∈ lw_tbl := lw_at lw_m7 124 rfl
theorem q1680 : (Jvm.Cond.instanceMethod ({ cls := "CircuitCells$Reader", name := "valueOf", desc := "(Ljava/lang/String;)LCircuitCells$Value;" } : Jvm.MethodName)) ∈ lw_all := lw_g (lw_at lw_m7 125 rfl) rfl
theorem q1681 : (Jvm.Cond.code ({ cls := "CircuitCells$Reader", name := "valueOf", desc := "(Ljava/lang/String;)LCircuitCells$Value;" } : Jvm.MethodName) prog_13_method_20_code (4 : Nat) (Option.some (Jvm.ClassFile.FieldType.object "CircuitCells$Value"))) ∈ lw_all := lw_g (lw_at lw_m7 126 rfl) rfl
theorem q1682 : (Jvm.Cond.stringRef "CircuitCells$Reader" (267 : Nat) "packet") ∈ lw_tbl := lw_at lw_m7 127 rfl
theorem q1683 : (Jvm.Cond.stringRef "CircuitCells$Reader" (269 : Nat) "time") ∈ lw_tbl := lw_at lw_m7 128 rfl
theorem q1684 : (Jvm.Cond.stringRef "CircuitCells$Reader" (271 : Nat) "last") ∈ lw_tbl := lw_at lw_m7 129 rfl
theorem q1685 : (Jvm.Cond.stringRef "CircuitCells$Reader" (273 : Nat) "flying") ∈ lw_tbl := lw_at lw_m7 130 rfl
theorem q1686 : (Jvm.Cond.fieldLink "CircuitCells$Reader" (275 : Nat) "CircuitCells$Value" "PACKET" "LCircuitCells$Value;") ∈ lw_all := lw_g (lw_at lw_m7 131 rfl) rfl
theorem q1687 : (Jvm.Cond.fieldLink "CircuitCells$Reader" (281 : Nat) "CircuitCells$Value" "TIME" "LCircuitCells$Value;") ∈ lw_all := lw_g (lw_at lw_m7 132 rfl) rfl
theorem q1688 : (Jvm.Cond.fieldLink "CircuitCells$Reader" (284 : Nat) "CircuitCells$Value" "LAST" "LCircuitCells$Value;") ∈ lw_all := lw_g (lw_at lw_m7 133 rfl) rfl
theorem q1689 : (Jvm.Cond.fieldLink "CircuitCells$Reader" (287 : Nat) "CircuitCells$Value" "FLYING" "LCircuitCells$Value;") ∈ lw_all := lw_g (lw_at lw_m7 134 rfl) rfl
theorem q1690 : (Jvm.Cond.classLink "CircuitCells$Reader" (262 : Nat) "CircuitCells$Seen") ∈ lw_all := lw_g (lw_at lw_m7 135 rfl) rfl
theorem q1692 : (Jvm.Cond.methodLink "CircuitCells$Reader" (264 : Nat) ({ cls := "CircuitCells$Seen", name := "<init>", desc := "(LCircuitCells$Value;)V" } : Jvm.MethodName)) ∈ lw_all := lw_g (lw_at lw_m7 137 rfl) rfl
theorem q1700 : (Jvm.Cond.stringRef "CircuitCells$Reader" (250 : Nat) "*") ∈ lw_tbl := lw_at lw_m7 145 rfl
theorem q1701 : (Jvm.Cond.stringRef "CircuitCells$Reader" (252 : Nat) "/") ∈ lw_tbl := lw_at lw_m7 146 rfl
theorem q1702 : (Jvm.Cond.methodLink "CircuitCells$Reader" (233 : Nat) ({ cls := "java/lang/String", name := "charAt", desc := "(I)C" } : Jvm.MethodName)) ∈ lw_all := lw_g (lw_at lw_m7 147 rfl) rfl
theorem q1713 : (Jvm.Cond.classLink "CircuitCells$Reader" (216 : Nat) "CircuitCells$Both") ∈ lw_all := lw_g (lw_at lw_m7 158 rfl) rfl
theorem q1715 : (Jvm.Cond.methodLink "CircuitCells$Reader" (218 : Nat) ({ cls := "CircuitCells$Both", name := "<init>", desc := "(CLCircuitCells$Expr;LCircuitCells$Expr;)V" } : Jvm.MethodName)) ∈ lw_all := lw_g (lw_at lw_m7 160 rfl) rfl
theorem q1729 : (Jvm.Cond.stringRef "CircuitCells$Reader" (245 : Nat) "+") ∈ lw_tbl := lw_at lw_m7 174 rfl
theorem q1730 : (Jvm.Cond.stringRef "CircuitCells$Reader" (229 : Nat) "<") ∈ lw_tbl := lw_at lw_m7 175 rfl
theorem q1731 : (Jvm.Cond.stringRef "CircuitCells$Reader" (231 : Nat) "=") ∈ lw_tbl := lw_at lw_m7 176 rfl
theorem q1732 : (Jvm.Cond.classLink "CircuitCells$Reader" (237 : Nat) "CircuitCells$Not") ∈ lw_all := lw_g (lw_at lw_m7 177 rfl) rfl
theorem q1734 : (Jvm.Cond.methodLink "CircuitCells$Reader" (239 : Nat) ({ cls := "CircuitCells$Not", name := "<init>", desc := "(LCircuitCells$Expr;)V" } : Jvm.MethodName)) ∈ lw_all := lw_g (lw_at lw_m7 179 rfl) rfl
theorem q1742 : (Jvm.Cond.stringRef "CircuitCells$Reader" (224 : Nat) "and") ∈ lw_tbl := lw_at lw_m7 187 rfl
theorem q1743 : (Jvm.Cond.stringRef "CircuitCells$Reader" (214 : Nat) "or") ∈ lw_tbl := lw_at lw_m7 188 rfl
theorem q1744 : (Jvm.Cond.stringRef "CircuitCells$Reader" (136 : Nat) ";") ∈ lw_tbl := lw_at lw_m7 189 rfl
theorem q2980 : (Jvm.Cond.castable "CircuitCells$Reader" "java/lang/Object") ∈ lw_tbl := lw_at lw_m12 225 rfl

abbrev cX12_init : ByteArray := prog_6_method_1_code
def yX12_init : MethodName := ⟨RX12, "<init>", "(II)V"⟩
def dkwX12_init_0 : List UInt8 := [42, 183, 0, 1, 42, 27, 181, 0, 7, 42, 28, 181, 0, 13, 177]
abbrev dktX12_init_0 : List UInt8 := dkwX12_init_0 ++ []
theorem dksX12_init_0 : cX12_init.data.toList.drop 0 = dktX12_init_0 := by decide +kernel
theorem dX12_init_0 : decode cX12_init 0 = .ok (.aload_n 0, 1) := dk_42 (dk_at dksX12_init_0 0 rfl rfl)
theorem dX12_init_1 : decode cX12_init 1 = .ok (.invokespecial 1, 3) := dk_183 0 1 (dk_at dksX12_init_0 1 rfl rfl)
theorem dX12_init_4 : decode cX12_init 4 = .ok (.aload_n 0, 1) := dk_42 (dk_at dksX12_init_0 4 rfl rfl)
theorem dX12_init_5 : decode cX12_init 5 = .ok (.iload_n 1, 1) := dk_27 (dk_at dksX12_init_0 5 rfl rfl)
theorem dX12_init_6 : decode cX12_init 6 = .ok (.putfield 7, 3) := dk_181 0 7 (dk_at dksX12_init_0 6 rfl rfl)
theorem dX12_init_9 : decode cX12_init 9 = .ok (.aload_n 0, 1) := dk_42 (dk_at dksX12_init_0 9 rfl rfl)
theorem dX12_init_10 : decode cX12_init 10 = .ok (.iload_n 2, 1) := dk_28 (dk_at dksX12_init_0 10 rfl rfl)
theorem dX12_init_11 : decode cX12_init 11 = .ok (.putfield 13, 3) := dk_181 0 13 (dk_at dksX12_init_0 11 rfl rfl)
theorem dX12_init_14 : decode cX12_init 14 = .ok (.return_, 1) := dk_177 (dk_at dksX12_init_0 14 rfl rfl)
theorem q150 : (Jvm.Cond.initialized "CircuitCells$Fault") ∈ lw_all := lw_g (lw_at lw_m1 35 rfl) rfl
theorem q233 : (Jvm.Cond.selects "CircuitCells$Fault" ({ cls := "java/lang/Throwable", name := "fillInStackTrace", desc := "()Ljava/lang/Throwable;" } : Jvm.MethodName) ({ cls := "java/lang/Throwable", name := "fillInStackTrace", desc := "()Ljava/lang/Throwable;" } : Jvm.MethodName)) ∈ lw_all := lw_g (lw_at lw_m1 118 rfl) rfl
theorem q855 : (Jvm.Cond.selects "CircuitCells$Fault" ({ cls := "java/lang/Object", name := "getClass", desc := "()Ljava/lang/Class;" } : Jvm.MethodName) ({ cls := "java/lang/Object", name := "getClass", desc := "()Ljava/lang/Class;" } : Jvm.MethodName)) ∈ lw_all := lw_g (lw_at lw_m4 20 rfl) rfl
theorem q1495 : (Jvm.Cond.instantiable "CircuitCells$Fault" (8 : Nat)) ∈ lw_all := lw_g (lw_at lw_m6 180 rfl) rfl
theorem q1496 : (Jvm.Cond.castable "CircuitCells$Fault" "CircuitCells$Fault") ∈ lw_tbl := lw_at lw_m6 181 rfl
theorem q1497 : (Jvm.Cond.selects "CircuitCells$Fault" ({ cls := "java/lang/Throwable", name := "fillInStackTrace", desc := "(I)Ljava/lang/Throwable;" } : Jvm.MethodName) ({ cls := "java/lang/Throwable", name := "fillInStackTrace", desc := "(I)Ljava/lang/Throwable;" } : Jvm.MethodName)) ∈ lw_all := lw_g (lw_at lw_m6 182 rfl) rfl
theorem q1498 : (Jvm.Cond.lays "CircuitCells$Fault" "java/lang/Throwable" "cause" "Ljava/lang/Throwable;") ∈ lw_all := lw_g (lw_at lw_m6 183 rfl) rfl
theorem q1499 : (Jvm.Cond.lays "CircuitCells$Fault" "java/lang/Throwable" "stackTrace" "[Ljava/lang/StackTraceElement;") ∈ lw_all := lw_g (lw_at lw_m6 184 rfl) rfl
theorem q1500 : (Jvm.Cond.lays "CircuitCells$Fault" "java/lang/Throwable" "suppressedExceptions" "Ljava/util/List;") ∈ lw_all := lw_g (lw_at lw_m6 185 rfl) rfl
theorem q1501 : (Jvm.Cond.lays "CircuitCells$Fault" "java/lang/Throwable" "detailMessage" "Ljava/lang/String;") ∈ lw_all := lw_g (lw_at lw_m6 186 rfl) rfl
theorem q1502 : (Jvm.Cond.lays "CircuitCells$Fault" "java/lang/Throwable" "backtrace" "Ljava/lang/Object;") ∈ lw_all := lw_g (lw_at lw_m6 187 rfl) rfl
theorem q1504 : (Jvm.Cond.instanceMethod ({ cls := "CircuitCells$Fault", name := "<init>", desc := "(II)V" } : Jvm.MethodName)) ∈ lw_all := lw_g (lw_at lw_m6 189 rfl) rfl
theorem q1505 : (Jvm.Cond.code ({ cls := "CircuitCells$Fault", name := "<init>", desc := "(II)V" } : Jvm.MethodName) prog_6_method_1_code (3 : Nat) (Option.none : Option Jvm.ClassFile.FieldType)) ∈ lw_all := lw_g (lw_at lw_m6 190 rfl) rfl
theorem q1506 : (Jvm.Cond.methodLink "CircuitCells$Fault" (1 : Nat) ({ cls := "java/lang/Exception", name := "<init>", desc := "()V" } : Jvm.MethodName)) ∈ lw_all := lw_g (lw_at lw_m6 191 rfl) rfl
theorem q1507 : (Jvm.Cond.fieldLink "CircuitCells$Fault" (7 : Nat) "CircuitCells$Fault" "kind" "I") ∈ lw_all := lw_g (lw_at lw_m6 192 rfl) rfl
theorem q1509 : (Jvm.Cond.fieldLink "CircuitCells$Fault" (13 : Nat) "CircuitCells$Fault" "place" "I") ∈ lw_all := lw_g (lw_at lw_m6 194 rfl) rfl
theorem q1511 : (Jvm.Cond.laysFinal "CircuitCells$Fault" "CircuitCells$Fault" "kind" "I") ∈ lw_all := lw_g (lw_at lw_m6 196 rfl) rfl
theorem q1512 : (Jvm.Cond.soleField "CircuitCells$Fault" "kind") ∈ lw_all := lw_g (lw_at lw_m6 197 rfl) rfl
theorem q1513 : (Jvm.Cond.laysFinal "CircuitCells$Fault" "CircuitCells$Fault" "place" "I") ∈ lw_all := lw_g (lw_at lw_m6 198 rfl) rfl
theorem q1514 : (Jvm.Cond.soleField "CircuitCells$Fault" "place") ∈ lw_all := lw_g (lw_at lw_m6 199 rfl) rfl
theorem q1515 : (Jvm.Cond.lays "CircuitCells$Fault" "java/lang/Throwable" "depth" "I") ∈ lw_all := lw_g (lw_at lw_m6 200 rfl) rfl
theorem q1516 : (Jvm.Cond.superclass "CircuitCells$Fault" "java/lang/Exception") ∈ lw_all := lw_g (lw_at lw_m6 201 rfl) rfl
theorem q2051 : (Jvm.Cond.selects "CircuitCells$Fault" ({ cls := "java/lang/Throwable", name := "toString", desc := "()Ljava/lang/String;" } : Jvm.MethodName) ({ cls := "java/lang/Throwable", name := "toString", desc := "()Ljava/lang/String;" } : Jvm.MethodName)) ∈ lw_all := lw_g (lw_at lw_m9 16 rfl) rfl
theorem q2061 : (Jvm.Cond.selects "CircuitCells$Fault" ({ cls := "java/lang/Throwable", name := "getLocalizedMessage", desc := "()Ljava/lang/String;" } : Jvm.MethodName) ({ cls := "java/lang/Throwable", name := "getLocalizedMessage", desc := "()Ljava/lang/String;" } : Jvm.MethodName)) ∈ lw_all := lw_g (lw_at lw_m9 26 rfl) rfl
theorem q2070 : (Jvm.Cond.selects "CircuitCells$Fault" ({ cls := "java/lang/Throwable", name := "getMessage", desc := "()Ljava/lang/String;" } : Jvm.MethodName) ({ cls := "java/lang/Throwable", name := "getMessage", desc := "()Ljava/lang/String;" } : Jvm.MethodName)) ∈ lw_all := lw_g (lw_at lw_m9 35 rfl) rfl
theorem q2982 : (Jvm.Cond.castable "CircuitCells$Fault" "java/lang/Object") ∈ lw_tbl := lw_at lw_m12 227 rfl

/-! CircuitCells$Expr -/
set_option maxRecDepth 100000
def RX13 : String := "CircuitCells$Expr"
abbrev cX13_init : ByteArray := prog_5_method_1_code
def yX13_init : MethodName := ⟨RX13, "<init>", "()V"⟩
theorem dX13_init_0 : decode cX13_init 0 = .ok (.aload_n 0, 1) := by decide +kernel
theorem dX13_init_1 : decode cX13_init 1 = .ok (.invokespecial 1, 3) := by decide +kernel
theorem dX13_init_4 : decode cX13_init 4 = .ok (.return_, 1) := by decide +kernel
theorem q152 : (Jvm.Cond.initialized "CircuitCells$Expr") ∈ lw_all := lw_g (lw_at lw_m1 37 rfl) rfl
theorem q1204 : (Jvm.Cond.declares ({ cls := "CircuitCells$Expr", name := "by", desc := "(LCircuitCells$View;)I" } : Jvm.MethodName)) ∈ lw_tbl := lw_at lw_m5 129 rfl
theorem q1205 : (Jvm.Cond.sameMethod "CircuitCells$Expr" "CircuitCells$Expr" "by" "(LCircuitCells$View;)I") ∈ lw_all := lw_g (lw_at lw_m5 130 rfl) rfl
theorem q1666 : (Jvm.Cond.instanceMethod ({ cls := "CircuitCells$Expr", name := "<init>", desc := "()V" } : Jvm.MethodName)) ∈ lw_all := lw_g (lw_at lw_m7 111 rfl) rfl
theorem q1667 : (Jvm.Cond.code ({ cls := "CircuitCells$Expr", name := "<init>", desc := "()V" } : Jvm.MethodName) prog_5_method_1_code (1 : Nat) (Option.none : Option Jvm.ClassFile.FieldType)) ∈ lw_all := lw_g (lw_at lw_m7 112 rfl) rfl
theorem q1668 : (Jvm.Cond.methodLink "CircuitCells$Expr" (1 : Nat) ({ cls := "java/lang/Object", name := "<init>", desc := "()V" } : Jvm.MethodName)) ∈ lw_all := lw_g (lw_at lw_m7 113 rfl) rfl

abbrev cX14_by : ByteArray := prog_17_method_2_code
def yX14_by : MethodName := ⟨RX14, "by", "(LCircuitCells$View;)I"⟩
theorem dX14_by_0 : decode cX14_by 0 = .ok (.aload_n 0, 1) := by decide +kernel
theorem dX14_by_1 : decode cX14_by 1 = .ok (.getfield 7, 3) := by decide +kernel
theorem dX14_by_4 : decode cX14_by 4 = .ok (.ireturn, 1) := by decide +kernel
abbrev cX14_init : ByteArray := prog_17_method_1_code
def yX14_init : MethodName := ⟨RX14, "<init>", "(I)V"⟩
def dkwX14_init_0 : List UInt8 := [42, 183, 0, 1, 42, 27, 181, 0, 7, 177]
abbrev dktX14_init_0 : List UInt8 := dkwX14_init_0 ++ []
theorem dksX14_init_0 : cX14_init.data.toList.drop 0 = dktX14_init_0 := by decide +kernel
theorem dX14_init_0 : decode cX14_init 0 = .ok (.aload_n 0, 1) := dk_42 (dk_at dksX14_init_0 0 rfl rfl)
theorem dX14_init_1 : decode cX14_init 1 = .ok (.invokespecial 1, 3) := dk_183 0 1 (dk_at dksX14_init_0 1 rfl rfl)
theorem dX14_init_4 : decode cX14_init 4 = .ok (.aload_n 0, 1) := dk_42 (dk_at dksX14_init_0 4 rfl rfl)
theorem dX14_init_5 : decode cX14_init 5 = .ok (.iload_n 1, 1) := dk_27 (dk_at dksX14_init_0 5 rfl rfl)
theorem dX14_init_6 : decode cX14_init 6 = .ok (.putfield 7, 3) := dk_181 0 7 (dk_at dksX14_init_0 6 rfl rfl)
theorem dX14_init_9 : decode cX14_init 9 = .ok (.return_, 1) := dk_177 (dk_at dksX14_init_0 9 rfl rfl)
theorem q153 : (Jvm.Cond.initialized "CircuitCells$Told") ∈ lw_all := lw_g (lw_at lw_m1 38 rfl) rfl
theorem q864 : (Jvm.Cond.selects "CircuitCells$Told" ({ cls := "java/lang/Object", name := "getClass", desc := "()Ljava/lang/Class;" } : Jvm.MethodName) ({ cls := "java/lang/Object", name := "getClass", desc := "()Ljava/lang/Class;" } : Jvm.MethodName)) ∈ lw_all := lw_g (lw_at lw_m4 29 rfl) rfl
theorem q1216 : (Jvm.Cond.instanceMethod ({ cls := "CircuitCells$Told", name := "by", desc := "(LCircuitCells$View;)I" } : Jvm.MethodName)) ∈ lw_all := lw_g (lw_at lw_m5 141 rfl) rfl
theorem q1217 : (Jvm.Cond.code ({ cls := "CircuitCells$Told", name := "by", desc := "(LCircuitCells$View;)I" } : Jvm.MethodName) prog_17_method_2_code (2 : Nat) (Option.some Jvm.ClassFile.FieldType.int)) ∈ lw_all := lw_g (lw_at lw_m5 142 rfl) rfl
theorem q1220 : (Jvm.Cond.selects "CircuitCells$Told" ({ cls := "CircuitCells$Expr", name := "by", desc := "(LCircuitCells$View;)I" } : Jvm.MethodName) ({ cls := "CircuitCells$Told", name := "by", desc := "(LCircuitCells$View;)I" } : Jvm.MethodName)) ∈ lw_all := lw_g (lw_at lw_m5 145 rfl) rfl
theorem q1661 : (Jvm.Cond.instantiable "CircuitCells$Told" (1 : Nat)) ∈ lw_all := lw_g (lw_at lw_m7 106 rfl) rfl
theorem q1663 : (Jvm.Cond.instanceMethod ({ cls := "CircuitCells$Told", name := "<init>", desc := "(I)V" } : Jvm.MethodName)) ∈ lw_all := lw_g (lw_at lw_m7 108 rfl) rfl
theorem q1664 : (Jvm.Cond.code ({ cls := "CircuitCells$Told", name := "<init>", desc := "(I)V" } : Jvm.MethodName) prog_17_method_1_code (2 : Nat) (Option.none : Option Jvm.ClassFile.FieldType)) ∈ lw_all := lw_g (lw_at lw_m7 109 rfl) rfl
theorem q1665 : (Jvm.Cond.methodLinkNest "CircuitCells$Told" (1 : Nat) ({ cls := "CircuitCells$Expr", name := "<init>", desc := "()V" } : Jvm.MethodName) "CircuitCells") ∈ lw_tbl := lw_at lw_m7 110 rfl
theorem q1669 : (Jvm.Cond.fieldLink "CircuitCells$Told" (7 : Nat) "CircuitCells$Told" "n" "I") ∈ lw_all := lw_g (lw_at lw_m7 114 rfl) rfl
theorem q1670 : (Jvm.Cond.laysFinal "CircuitCells$Told" "CircuitCells$Told" "n" "I") ∈ lw_all := lw_g (lw_at lw_m7 115 rfl) rfl
theorem q1671 : (Jvm.Cond.soleField "CircuitCells$Told" "n") ∈ lw_all := lw_g (lw_at lw_m7 116 rfl) rfl
theorem q1672 : (Jvm.Cond.superclass "CircuitCells$Told" "CircuitCells$Expr") ∈ lw_all := lw_g (lw_at lw_m7 117 rfl) rfl
theorem q2985 : (Jvm.Cond.castable "CircuitCells$Told" "java/lang/Object") ∈ lw_tbl := lw_at lw_m12 230 rfl

abbrev cX15_by : ByteArray := prog_14_method_2_code
def yX15_by : MethodName := ⟨RX15, "by", "(LCircuitCells$View;)I"⟩
def dkwX15_by_0 : List UInt8 := [43, 180, 0, 13, 42, 180, 0, 7, 182, 0, 19, 46, 172]
abbrev dktX15_by_0 : List UInt8 := dkwX15_by_0 ++ []
theorem dksX15_by_0 : cX15_by.data.toList.drop 0 = dktX15_by_0 := by decide +kernel
theorem dX15_by_0 : decode cX15_by 0 = .ok (.aload_n 1, 1) := dk_43 (dk_at dksX15_by_0 0 rfl rfl)
theorem dX15_by_1 : decode cX15_by 1 = .ok (.getfield 13, 3) := dk_180 0 13 (dk_at dksX15_by_0 1 rfl rfl)
theorem dX15_by_4 : decode cX15_by 4 = .ok (.aload_n 0, 1) := dk_42 (dk_at dksX15_by_0 4 rfl rfl)
theorem dX15_by_5 : decode cX15_by 5 = .ok (.getfield 7, 3) := dk_180 0 7 (dk_at dksX15_by_0 5 rfl rfl)
theorem dX15_by_8 : decode cX15_by 8 = .ok (.invokevirtual 19, 3) := dk_182 0 19 (dk_at dksX15_by_0 8 rfl rfl)
theorem dX15_by_11 : decode cX15_by 11 = .ok (.iaload, 1) := dk_46 (dk_at dksX15_by_0 11 rfl rfl)
theorem dX15_by_12 : decode cX15_by 12 = .ok (.ireturn, 1) := dk_172 (dk_at dksX15_by_0 12 rfl rfl)
abbrev cX15_init : ByteArray := prog_14_method_1_code
def yX15_init : MethodName := ⟨RX15, "<init>", "(LCircuitCells$Value;)V"⟩
def dkwX15_init_0 : List UInt8 := [42, 183, 0, 1, 42, 43, 181, 0, 7, 177]
abbrev dktX15_init_0 : List UInt8 := dkwX15_init_0 ++ []
theorem dksX15_init_0 : cX15_init.data.toList.drop 0 = dktX15_init_0 := by decide +kernel
theorem dX15_init_0 : decode cX15_init 0 = .ok (.aload_n 0, 1) := dk_42 (dk_at dksX15_init_0 0 rfl rfl)
theorem dX15_init_1 : decode cX15_init 1 = .ok (.invokespecial 1, 3) := dk_183 0 1 (dk_at dksX15_init_0 1 rfl rfl)
theorem dX15_init_4 : decode cX15_init 4 = .ok (.aload_n 0, 1) := dk_42 (dk_at dksX15_init_0 4 rfl rfl)
theorem dX15_init_5 : decode cX15_init 5 = .ok (.aload_n 1, 1) := dk_43 (dk_at dksX15_init_0 5 rfl rfl)
theorem dX15_init_6 : decode cX15_init 6 = .ok (.putfield 7, 3) := dk_181 0 7 (dk_at dksX15_init_0 6 rfl rfl)
theorem dX15_init_9 : decode cX15_init 9 = .ok (.return_, 1) := dk_177 (dk_at dksX15_init_0 9 rfl rfl)
theorem q154 : (Jvm.Cond.initialized "CircuitCells$Seen") ∈ lw_all := lw_g (lw_at lw_m1 39 rfl) rfl
theorem q553 : (Jvm.Cond.fieldLinkNest "CircuitCells$Seen" (13 : Nat) "CircuitCells$View" "of" "[I" "CircuitCells") ∈ lw_tbl := lw_at lw_m2 198 rfl
theorem q861 : (Jvm.Cond.selects "CircuitCells$Seen" ({ cls := "java/lang/Object", name := "getClass", desc := "()Ljava/lang/Class;" } : Jvm.MethodName) ({ cls := "java/lang/Object", name := "getClass", desc := "()Ljava/lang/Class;" } : Jvm.MethodName)) ∈ lw_all := lw_g (lw_at lw_m4 26 rfl) rfl
theorem q1213 : (Jvm.Cond.instanceMethod ({ cls := "CircuitCells$Seen", name := "by", desc := "(LCircuitCells$View;)I" } : Jvm.MethodName)) ∈ lw_all := lw_g (lw_at lw_m5 138 rfl) rfl
theorem q1214 : (Jvm.Cond.code ({ cls := "CircuitCells$Seen", name := "by", desc := "(LCircuitCells$View;)I" } : Jvm.MethodName) prog_14_method_2_code (2 : Nat) (Option.some Jvm.ClassFile.FieldType.int)) ∈ lw_all := lw_g (lw_at lw_m5 139 rfl) rfl
theorem q1215 : (Jvm.Cond.methodLink "CircuitCells$Seen" (19 : Nat) ({ cls := "CircuitCells$Value", name := "ordinal", desc := "()I" } : Jvm.MethodName)) ∈ lw_all := lw_g (lw_at lw_m5 140 rfl) rfl
theorem q1219 : (Jvm.Cond.selects "CircuitCells$Seen" ({ cls := "CircuitCells$Expr", name := "by", desc := "(LCircuitCells$View;)I" } : Jvm.MethodName) ({ cls := "CircuitCells$Seen", name := "by", desc := "(LCircuitCells$View;)I" } : Jvm.MethodName)) ∈ lw_all := lw_g (lw_at lw_m5 144 rfl) rfl
theorem q1691 : (Jvm.Cond.instantiable "CircuitCells$Seen" (1 : Nat)) ∈ lw_all := lw_g (lw_at lw_m7 136 rfl) rfl
theorem q1693 : (Jvm.Cond.instanceMethod ({ cls := "CircuitCells$Seen", name := "<init>", desc := "(LCircuitCells$Value;)V" } : Jvm.MethodName)) ∈ lw_all := lw_g (lw_at lw_m7 138 rfl) rfl
theorem q1694 : (Jvm.Cond.code ({ cls := "CircuitCells$Seen", name := "<init>", desc := "(LCircuitCells$Value;)V" } : Jvm.MethodName) prog_14_method_1_code (2 : Nat) (Option.none : Option Jvm.ClassFile.FieldType)) ∈ lw_all := lw_g (lw_at lw_m7 139 rfl) rfl
theorem q1695 : (Jvm.Cond.methodLinkNest "CircuitCells$Seen" (1 : Nat) ({ cls := "CircuitCells$Expr", name := "<init>", desc := "()V" } : Jvm.MethodName) "CircuitCells") ∈ lw_tbl := lw_at lw_m7 140 rfl
theorem q1696 : (Jvm.Cond.fieldLink "CircuitCells$Seen" (7 : Nat) "CircuitCells$Seen" "value" "LCircuitCells$Value;") ∈ lw_all := lw_g (lw_at lw_m7 141 rfl) rfl
theorem q1697 : (Jvm.Cond.laysFinal "CircuitCells$Seen" "CircuitCells$Seen" "value" "LCircuitCells$Value;") ∈ lw_all := lw_g (lw_at lw_m7 142 rfl) rfl
theorem q1698 : (Jvm.Cond.soleField "CircuitCells$Seen" "value") ∈ lw_all := lw_g (lw_at lw_m7 143 rfl) rfl
theorem q1699 : (Jvm.Cond.superclass "CircuitCells$Seen" "CircuitCells$Expr") ∈ lw_all := lw_g (lw_at lw_m7 144 rfl) rfl
theorem q2986 : (Jvm.Cond.castable "CircuitCells$Seen" "java/lang/Object") ∈ lw_tbl := lw_at lw_m12 231 rfl

abbrev cX16_by : ByteArray := prog_3_method_2_code
def yX16_by : MethodName := ⟨RX16, "by", "(LCircuitCells$View;)I"⟩
def dkwX16_by_5 : List UInt8 := [167, 0, 4, 3, 172]
abbrev dktX16_by_5 : List UInt8 := dkwX16_by_5 ++ []
def dkwX16_by_4 : List UInt8 := [153, 0, 11, 29, 153, 0, 7, 4, 167, 0, 4, 3, 172, 28, 154, 0, 7, 29, 153, 0, 7, 4]
abbrev dktX16_by_4 : List UInt8 := dkwX16_by_4 ++ dktX16_by_5
def dkwX16_by_3 : List UInt8 := [28, 29, 162, 0, 7, 4, 167, 0, 4, 3, 172, 28, 29, 160, 0, 7, 4, 167, 0, 4, 3, 172, 28]
abbrev dktX16_by_3 : List UInt8 := dkwX16_by_3 ++ dktX16_by_4
def dkwX16_by_2 : List UInt8 := [28, 29, 96, 172, 28, 29, 100, 172, 28, 29, 104, 172, 29, 154, 0, 7, 3, 167, 0, 6, 28, 29, 108, 172]
abbrev dktX16_by_2 : List UInt8 := dkwX16_by_2 ++ dktX16_by_3
def dkwX16_by_1 : List UInt8 := [170, 0, 0, 0, 0, 170, 0, 0, 0, 38, 0, 0, 0, 61, 0, 0, 0, 156, 0, 0, 0, 170, 0, 0, 0, 170, 0, 0, 0, 170, 0, 0, 0, 118, 0, 0, 0, 110, 0, 0, 0, 170, 0, 0, 0, 114, 0, 0, 0, 170, 0, 0, 0, 122, 0, 0, 0, 170, 0, 0, 0, 170, 0, 0, 0, 170, 0, 0, 0, 170, 0, 0, 0, 170, 0, 0, 0, 170, 0, 0, 0, 170, 0, 0, 0, 170, 0, 0, 0, 170, 0, 0, 0, 170, 0, 0, 0, 170, 0, 0, 0, 170, 0, 0, 0, 134, 0, 0, 0, 145]
abbrev dktX16_by_1 : List UInt8 := dkwX16_by_1 ++ dktX16_by_2
def dkwX16_by_0 : List UInt8 := [42, 180, 0, 13, 43, 182, 0, 20, 61, 42, 180, 0, 17, 43, 182, 0, 20, 62, 42, 180, 0, 7]
abbrev dktX16_by_0 : List UInt8 := dkwX16_by_0 ++ dktX16_by_1
theorem dksX16_by_0 : cX16_by.data.toList.drop 0 = dktX16_by_0 := by decide +kernel
theorem dksX16_by_1 : cX16_by.data.toList.drop 22 = dktX16_by_1 := dk_seg dksX16_by_0 22 rfl rfl
theorem dksX16_by_2 : cX16_by.data.toList.drop 132 = dktX16_by_2 := dk_seg dksX16_by_1 110 rfl rfl
theorem dksX16_by_3 : cX16_by.data.toList.drop 156 = dktX16_by_3 := dk_seg dksX16_by_2 24 rfl rfl
theorem dksX16_by_4 : cX16_by.data.toList.drop 179 = dktX16_by_4 := dk_seg dksX16_by_3 23 rfl rfl
theorem dksX16_by_5 : cX16_by.data.toList.drop 201 = dktX16_by_5 := dk_seg dksX16_by_4 22 rfl rfl
theorem dX16_by_0 : decode cX16_by 0 = .ok (.aload_n 0, 1) := dk_42 (dk_at dksX16_by_0 0 rfl rfl)
theorem dX16_by_1 : decode cX16_by 1 = .ok (.getfield 13, 3) := dk_180 0 13 (dk_at dksX16_by_0 1 rfl rfl)
theorem dX16_by_4 : decode cX16_by 4 = .ok (.aload_n 1, 1) := dk_43 (dk_at dksX16_by_0 4 rfl rfl)
theorem dX16_by_5 : decode cX16_by 5 = .ok (.invokevirtual 20, 3) := dk_182 0 20 (dk_at dksX16_by_0 5 rfl rfl)
theorem dX16_by_8 : decode cX16_by 8 = .ok (.istore_n 2, 1) := dk_61 (dk_at dksX16_by_0 8 rfl rfl)
theorem dX16_by_9 : decode cX16_by 9 = .ok (.aload_n 0, 1) := dk_42 (dk_at dksX16_by_0 9 rfl rfl)
theorem dX16_by_10 : decode cX16_by 10 = .ok (.getfield 17, 3) := dk_180 0 17 (dk_at dksX16_by_0 10 rfl rfl)
theorem dX16_by_13 : decode cX16_by 13 = .ok (.aload_n 1, 1) := dk_43 (dk_at dksX16_by_0 13 rfl rfl)
theorem dX16_by_14 : decode cX16_by 14 = .ok (.invokevirtual 20, 3) := dk_182 0 20 (dk_at dksX16_by_0 14 rfl rfl)
theorem dX16_by_17 : decode cX16_by 17 = .ok (.istore_n 3, 1) := dk_62 (dk_at dksX16_by_0 17 rfl rfl)
theorem dX16_by_18 : decode cX16_by 18 = .ok (.aload_n 0, 1) := dk_42 (dk_at dksX16_by_0 18 rfl rfl)
theorem dX16_by_19 : decode cX16_by 19 = .ok (.getfield 7, 3) := dk_180 0 7 (dk_at dksX16_by_0 19 rfl rfl)
theorem dX16_by_22 : decode cX16_by 22 = .ok (.tableswitch 170 38 61 #[156, 170, 170, 170, 118, 110, 170, 114, 170, 122, 170, 170, 170, 170, 170, 170, 170, 170, 170, 170, 170, 170, 134, 145], 110) := by decide +kernel
theorem dX16_by_132 : decode cX16_by 132 = .ok (.iload_n 2, 1) := dk_28 (dk_at dksX16_by_2 0 rfl rfl)
theorem dX16_by_133 : decode cX16_by 133 = .ok (.iload_n 3, 1) := dk_29 (dk_at dksX16_by_2 1 rfl rfl)
theorem dX16_by_134 : decode cX16_by 134 = .ok (.iadd, 1) := dk_96 (dk_at dksX16_by_2 2 rfl rfl)
theorem dX16_by_135 : decode cX16_by 135 = .ok (.ireturn, 1) := dk_172 (dk_at dksX16_by_2 3 rfl rfl)
theorem dX16_by_136 : decode cX16_by 136 = .ok (.iload_n 2, 1) := dk_28 (dk_at dksX16_by_2 4 rfl rfl)
theorem dX16_by_137 : decode cX16_by 137 = .ok (.iload_n 3, 1) := dk_29 (dk_at dksX16_by_2 5 rfl rfl)
theorem dX16_by_138 : decode cX16_by 138 = .ok (.isub, 1) := dk_100 (dk_at dksX16_by_2 6 rfl rfl)
theorem dX16_by_139 : decode cX16_by 139 = .ok (.ireturn, 1) := dk_172 (dk_at dksX16_by_2 7 rfl rfl)
theorem dX16_by_140 : decode cX16_by 140 = .ok (.iload_n 2, 1) := dk_28 (dk_at dksX16_by_2 8 rfl rfl)
theorem dX16_by_141 : decode cX16_by 141 = .ok (.iload_n 3, 1) := dk_29 (dk_at dksX16_by_2 9 rfl rfl)
theorem dX16_by_142 : decode cX16_by 142 = .ok (.imul, 1) := dk_104 (dk_at dksX16_by_2 10 rfl rfl)
theorem dX16_by_143 : decode cX16_by 143 = .ok (.ireturn, 1) := dk_172 (dk_at dksX16_by_2 11 rfl rfl)
theorem dX16_by_144 : decode cX16_by 144 = .ok (.iload_n 3, 1) := dk_29 (dk_at dksX16_by_2 12 rfl rfl)
theorem dX16_by_145 : decode cX16_by 145 = .ok (.ifCond .ne 7, 3) := dk_154 0 7 (dk_at dksX16_by_2 13 rfl rfl)
theorem dX16_by_148 : decode cX16_by 148 = .ok (.iconst 0, 1) := dk_3 (dk_at dksX16_by_2 16 rfl rfl)
theorem dX16_by_149 : decode cX16_by 149 = .ok (.goto 6, 3) := dk_167 0 6 (dk_at dksX16_by_2 17 rfl rfl)
theorem dX16_by_152 : decode cX16_by 152 = .ok (.iload_n 2, 1) := dk_28 (dk_at dksX16_by_2 20 rfl rfl)
theorem dX16_by_153 : decode cX16_by 153 = .ok (.iload_n 3, 1) := dk_29 (dk_at dksX16_by_2 21 rfl rfl)
theorem dX16_by_154 : decode cX16_by 154 = .ok (.idiv, 1) := dk_108 (dk_at dksX16_by_2 22 rfl rfl)
theorem dX16_by_155 : decode cX16_by 155 = .ok (.ireturn, 1) := dk_172 (dk_at dksX16_by_2 23 rfl rfl)
theorem dX16_by_156 : decode cX16_by 156 = .ok (.iload_n 2, 1) := dk_28 (dk_at dksX16_by_3 0 rfl rfl)
theorem dX16_by_157 : decode cX16_by 157 = .ok (.iload_n 3, 1) := dk_29 (dk_at dksX16_by_3 1 rfl rfl)
theorem dX16_by_158 : decode cX16_by 158 = .ok (.if_icmp .ge 7, 3) := dk_162 0 7 (dk_at dksX16_by_3 2 rfl rfl)
theorem dX16_by_161 : decode cX16_by 161 = .ok (.iconst 1, 1) := dk_4 (dk_at dksX16_by_3 5 rfl rfl)
theorem dX16_by_162 : decode cX16_by 162 = .ok (.goto 4, 3) := dk_167 0 4 (dk_at dksX16_by_3 6 rfl rfl)
theorem dX16_by_165 : decode cX16_by 165 = .ok (.iconst 0, 1) := dk_3 (dk_at dksX16_by_3 9 rfl rfl)
theorem dX16_by_166 : decode cX16_by 166 = .ok (.ireturn, 1) := dk_172 (dk_at dksX16_by_3 10 rfl rfl)
theorem dX16_by_167 : decode cX16_by 167 = .ok (.iload_n 2, 1) := dk_28 (dk_at dksX16_by_3 11 rfl rfl)
theorem dX16_by_168 : decode cX16_by 168 = .ok (.iload_n 3, 1) := dk_29 (dk_at dksX16_by_3 12 rfl rfl)
theorem dX16_by_169 : decode cX16_by 169 = .ok (.if_icmp .ne 7, 3) := dk_160 0 7 (dk_at dksX16_by_3 13 rfl rfl)
theorem dX16_by_172 : decode cX16_by 172 = .ok (.iconst 1, 1) := dk_4 (dk_at dksX16_by_3 16 rfl rfl)
theorem dX16_by_173 : decode cX16_by 173 = .ok (.goto 4, 3) := dk_167 0 4 (dk_at dksX16_by_3 17 rfl rfl)
theorem dX16_by_176 : decode cX16_by 176 = .ok (.iconst 0, 1) := dk_3 (dk_at dksX16_by_3 20 rfl rfl)
theorem dX16_by_177 : decode cX16_by 177 = .ok (.ireturn, 1) := dk_172 (dk_at dksX16_by_3 21 rfl rfl)
theorem dX16_by_178 : decode cX16_by 178 = .ok (.iload_n 2, 1) := dk_28 (dk_at dksX16_by_3 22 rfl rfl)
theorem dX16_by_179 : decode cX16_by 179 = .ok (.ifCond .eq 11, 3) := dk_153 0 11 (dk_at dksX16_by_4 0 rfl rfl)
theorem dX16_by_182 : decode cX16_by 182 = .ok (.iload_n 3, 1) := dk_29 (dk_at dksX16_by_4 3 rfl rfl)
theorem dX16_by_183 : decode cX16_by 183 = .ok (.ifCond .eq 7, 3) := dk_153 0 7 (dk_at dksX16_by_4 4 rfl rfl)
theorem dX16_by_186 : decode cX16_by 186 = .ok (.iconst 1, 1) := dk_4 (dk_at dksX16_by_4 7 rfl rfl)
theorem dX16_by_187 : decode cX16_by 187 = .ok (.goto 4, 3) := dk_167 0 4 (dk_at dksX16_by_4 8 rfl rfl)
theorem dX16_by_190 : decode cX16_by 190 = .ok (.iconst 0, 1) := dk_3 (dk_at dksX16_by_4 11 rfl rfl)
theorem dX16_by_191 : decode cX16_by 191 = .ok (.ireturn, 1) := dk_172 (dk_at dksX16_by_4 12 rfl rfl)
theorem dX16_by_192 : decode cX16_by 192 = .ok (.iload_n 2, 1) := dk_28 (dk_at dksX16_by_4 13 rfl rfl)
theorem dX16_by_193 : decode cX16_by 193 = .ok (.ifCond .ne 7, 3) := dk_154 0 7 (dk_at dksX16_by_4 14 rfl rfl)
theorem dX16_by_196 : decode cX16_by 196 = .ok (.iload_n 3, 1) := dk_29 (dk_at dksX16_by_4 17 rfl rfl)
theorem dX16_by_197 : decode cX16_by 197 = .ok (.ifCond .eq 7, 3) := dk_153 0 7 (dk_at dksX16_by_4 18 rfl rfl)
theorem dX16_by_200 : decode cX16_by 200 = .ok (.iconst 1, 1) := dk_4 (dk_at dksX16_by_4 21 rfl rfl)
theorem dX16_by_201 : decode cX16_by 201 = .ok (.goto 4, 3) := dk_167 0 4 (dk_at dksX16_by_5 0 rfl rfl)
theorem dX16_by_204 : decode cX16_by 204 = .ok (.iconst 0, 1) := dk_3 (dk_at dksX16_by_5 3 rfl rfl)
theorem dX16_by_205 : decode cX16_by 205 = .ok (.ireturn, 1) := dk_172 (dk_at dksX16_by_5 4 rfl rfl)
abbrev cX16_init : ByteArray := prog_3_method_1_code
def yX16_init : MethodName := ⟨RX16, "<init>", "(CLCircuitCells$Expr;LCircuitCells$Expr;)V"⟩
def dkwX16_init_0 : List UInt8 := [42, 183, 0, 1, 42, 27, 181, 0, 7, 42, 44, 181, 0, 13, 42, 45, 181, 0, 17, 177]
abbrev dktX16_init_0 : List UInt8 := dkwX16_init_0 ++ []
theorem dksX16_init_0 : cX16_init.data.toList.drop 0 = dktX16_init_0 := by decide +kernel
theorem dX16_init_0 : decode cX16_init 0 = .ok (.aload_n 0, 1) := dk_42 (dk_at dksX16_init_0 0 rfl rfl)
theorem dX16_init_1 : decode cX16_init 1 = .ok (.invokespecial 1, 3) := dk_183 0 1 (dk_at dksX16_init_0 1 rfl rfl)
theorem dX16_init_4 : decode cX16_init 4 = .ok (.aload_n 0, 1) := dk_42 (dk_at dksX16_init_0 4 rfl rfl)
theorem dX16_init_5 : decode cX16_init 5 = .ok (.iload_n 1, 1) := dk_27 (dk_at dksX16_init_0 5 rfl rfl)
theorem dX16_init_6 : decode cX16_init 6 = .ok (.putfield 7, 3) := dk_181 0 7 (dk_at dksX16_init_0 6 rfl rfl)
theorem dX16_init_9 : decode cX16_init 9 = .ok (.aload_n 0, 1) := dk_42 (dk_at dksX16_init_0 9 rfl rfl)
theorem dX16_init_10 : decode cX16_init 10 = .ok (.aload_n 2, 1) := dk_44 (dk_at dksX16_init_0 10 rfl rfl)
theorem dX16_init_11 : decode cX16_init 11 = .ok (.putfield 13, 3) := dk_181 0 13 (dk_at dksX16_init_0 11 rfl rfl)
theorem dX16_init_14 : decode cX16_init 14 = .ok (.aload_n 0, 1) := dk_42 (dk_at dksX16_init_0 14 rfl rfl)
theorem dX16_init_15 : decode cX16_init 15 = .ok (.aload_n 3, 1) := dk_45 (dk_at dksX16_init_0 15 rfl rfl)
theorem dX16_init_16 : decode cX16_init 16 = .ok (.putfield 17, 3) := dk_181 0 17 (dk_at dksX16_init_0 16 rfl rfl)
theorem dX16_init_19 : decode cX16_init 19 = .ok (.return_, 1) := dk_177 (dk_at dksX16_init_0 19 rfl rfl)
theorem q155 : (Jvm.Cond.initialized "CircuitCells$Both") ∈ lw_all := lw_g (lw_at lw_m1 40 rfl) rfl
theorem q853 : (Jvm.Cond.selects "CircuitCells$Both" ({ cls := "java/lang/Object", name := "getClass", desc := "()Ljava/lang/Class;" } : Jvm.MethodName) ({ cls := "java/lang/Object", name := "getClass", desc := "()Ljava/lang/Class;" } : Jvm.MethodName)) ∈ lw_all := lw_g (lw_at lw_m4 18 rfl) rfl
theorem q1206 : (Jvm.Cond.selects "CircuitCells$Both" ({ cls := "CircuitCells$Expr", name := "by", desc := "(LCircuitCells$View;)I" } : Jvm.MethodName) ({ cls := "CircuitCells$Both", name := "by", desc := "(LCircuitCells$View;)I" } : Jvm.MethodName)) ∈ lw_all := lw_g (lw_at lw_m5 131 rfl) rfl
theorem q1207 : (Jvm.Cond.instanceMethod ({ cls := "CircuitCells$Both", name := "by", desc := "(LCircuitCells$View;)I" } : Jvm.MethodName)) ∈ lw_all := lw_g (lw_at lw_m5 132 rfl) rfl
theorem q1208 : (Jvm.Cond.code ({ cls := "CircuitCells$Both", name := "by", desc := "(LCircuitCells$View;)I" } : Jvm.MethodName) prog_3_method_2_code (4 : Nat) (Option.some Jvm.ClassFile.FieldType.int)) ∈ lw_all := lw_g (lw_at lw_m5 133 rfl) rfl
theorem q1209 : (Jvm.Cond.methodLink "CircuitCells$Both" (20 : Nat) ({ cls := "CircuitCells$Expr", name := "by", desc := "(LCircuitCells$View;)I" } : Jvm.MethodName)) ∈ lw_all := lw_g (lw_at lw_m5 134 rfl) rfl
theorem q1714 : (Jvm.Cond.instantiable "CircuitCells$Both" (3 : Nat)) ∈ lw_all := lw_g (lw_at lw_m7 159 rfl) rfl
theorem q1716 : (Jvm.Cond.instanceMethod ({ cls := "CircuitCells$Both", name := "<init>", desc := "(CLCircuitCells$Expr;LCircuitCells$Expr;)V" } : Jvm.MethodName)) ∈ lw_all := lw_g (lw_at lw_m7 161 rfl) rfl
theorem q1717 : (Jvm.Cond.code ({ cls := "CircuitCells$Both", name := "<init>", desc := "(CLCircuitCells$Expr;LCircuitCells$Expr;)V" } : Jvm.MethodName) prog_3_method_1_code (4 : Nat) (Option.none : Option Jvm.ClassFile.FieldType)) ∈ lw_all := lw_g (lw_at lw_m7 162 rfl) rfl
theorem q1718 : (Jvm.Cond.methodLinkNest "CircuitCells$Both" (1 : Nat) ({ cls := "CircuitCells$Expr", name := "<init>", desc := "()V" } : Jvm.MethodName) "CircuitCells") ∈ lw_tbl := lw_at lw_m7 163 rfl
theorem q1719 : (Jvm.Cond.fieldLink "CircuitCells$Both" (7 : Nat) "CircuitCells$Both" "act" "C") ∈ lw_all := lw_g (lw_at lw_m7 164 rfl) rfl
theorem q1720 : (Jvm.Cond.fieldLink "CircuitCells$Both" (13 : Nat) "CircuitCells$Both" "left" "LCircuitCells$Expr;") ∈ lw_all := lw_g (lw_at lw_m7 165 rfl) rfl
theorem q1721 : (Jvm.Cond.fieldLink "CircuitCells$Both" (17 : Nat) "CircuitCells$Both" "right" "LCircuitCells$Expr;") ∈ lw_all := lw_g (lw_at lw_m7 166 rfl) rfl
theorem q1722 : (Jvm.Cond.laysFinal "CircuitCells$Both" "CircuitCells$Both" "act" "C") ∈ lw_all := lw_g (lw_at lw_m7 167 rfl) rfl
theorem q1723 : (Jvm.Cond.soleField "CircuitCells$Both" "act") ∈ lw_all := lw_g (lw_at lw_m7 168 rfl) rfl
theorem q1724 : (Jvm.Cond.laysFinal "CircuitCells$Both" "CircuitCells$Both" "left" "LCircuitCells$Expr;") ∈ lw_all := lw_g (lw_at lw_m7 169 rfl) rfl
theorem q1725 : (Jvm.Cond.soleField "CircuitCells$Both" "left") ∈ lw_all := lw_g (lw_at lw_m7 170 rfl) rfl
theorem q1726 : (Jvm.Cond.laysFinal "CircuitCells$Both" "CircuitCells$Both" "right" "LCircuitCells$Expr;") ∈ lw_all := lw_g (lw_at lw_m7 171 rfl) rfl
theorem q1727 : (Jvm.Cond.soleField "CircuitCells$Both" "right") ∈ lw_all := lw_g (lw_at lw_m7 172 rfl) rfl
theorem q1728 : (Jvm.Cond.superclass "CircuitCells$Both" "CircuitCells$Expr") ∈ lw_all := lw_g (lw_at lw_m7 173 rfl) rfl
theorem q2987 : (Jvm.Cond.castable "CircuitCells$Both" "java/lang/Object") ∈ lw_tbl := lw_at lw_m12 232 rfl

abbrev cX17_by : ByteArray := prog_12_method_2_code
def yX17_by : MethodName := ⟨RX17, "by", "(LCircuitCells$View;)I"⟩
def dkwX17_by_0 : List UInt8 := [42, 180, 0, 7, 43, 182, 0, 13, 154, 0, 7, 4, 167, 0, 4, 3, 172]
abbrev dktX17_by_0 : List UInt8 := dkwX17_by_0 ++ []
theorem dksX17_by_0 : cX17_by.data.toList.drop 0 = dktX17_by_0 := by decide +kernel
theorem dX17_by_0 : decode cX17_by 0 = .ok (.aload_n 0, 1) := dk_42 (dk_at dksX17_by_0 0 rfl rfl)
theorem dX17_by_1 : decode cX17_by 1 = .ok (.getfield 7, 3) := dk_180 0 7 (dk_at dksX17_by_0 1 rfl rfl)
theorem dX17_by_4 : decode cX17_by 4 = .ok (.aload_n 1, 1) := dk_43 (dk_at dksX17_by_0 4 rfl rfl)
theorem dX17_by_5 : decode cX17_by 5 = .ok (.invokevirtual 13, 3) := dk_182 0 13 (dk_at dksX17_by_0 5 rfl rfl)
theorem dX17_by_8 : decode cX17_by 8 = .ok (.ifCond .ne 7, 3) := dk_154 0 7 (dk_at dksX17_by_0 8 rfl rfl)
theorem dX17_by_11 : decode cX17_by 11 = .ok (.iconst 1, 1) := dk_4 (dk_at dksX17_by_0 11 rfl rfl)
theorem dX17_by_12 : decode cX17_by 12 = .ok (.goto 4, 3) := dk_167 0 4 (dk_at dksX17_by_0 12 rfl rfl)
theorem dX17_by_15 : decode cX17_by 15 = .ok (.iconst 0, 1) := dk_3 (dk_at dksX17_by_0 15 rfl rfl)
theorem dX17_by_16 : decode cX17_by 16 = .ok (.ireturn, 1) := dk_172 (dk_at dksX17_by_0 16 rfl rfl)
abbrev cX17_init : ByteArray := prog_12_method_1_code
def yX17_init : MethodName := ⟨RX17, "<init>", "(LCircuitCells$Expr;)V"⟩
def dkwX17_init_0 : List UInt8 := [42, 183, 0, 1, 42, 43, 181, 0, 7, 177]
abbrev dktX17_init_0 : List UInt8 := dkwX17_init_0 ++ []
theorem dksX17_init_0 : cX17_init.data.toList.drop 0 = dktX17_init_0 := by decide +kernel
theorem dX17_init_0 : decode cX17_init 0 = .ok (.aload_n 0, 1) := dk_42 (dk_at dksX17_init_0 0 rfl rfl)
theorem dX17_init_1 : decode cX17_init 1 = .ok (.invokespecial 1, 3) := dk_183 0 1 (dk_at dksX17_init_0 1 rfl rfl)
theorem dX17_init_4 : decode cX17_init 4 = .ok (.aload_n 0, 1) := dk_42 (dk_at dksX17_init_0 4 rfl rfl)
theorem dX17_init_5 : decode cX17_init 5 = .ok (.aload_n 1, 1) := dk_43 (dk_at dksX17_init_0 5 rfl rfl)
theorem dX17_init_6 : decode cX17_init 6 = .ok (.putfield 7, 3) := dk_181 0 7 (dk_at dksX17_init_0 6 rfl rfl)
theorem dX17_init_9 : decode cX17_init 9 = .ok (.return_, 1) := dk_177 (dk_at dksX17_init_0 9 rfl rfl)
theorem q156 : (Jvm.Cond.initialized "CircuitCells$Not") ∈ lw_all := lw_g (lw_at lw_m1 41 rfl) rfl
theorem q859 : (Jvm.Cond.selects "CircuitCells$Not" ({ cls := "java/lang/Object", name := "getClass", desc := "()Ljava/lang/Class;" } : Jvm.MethodName) ({ cls := "java/lang/Object", name := "getClass", desc := "()Ljava/lang/Class;" } : Jvm.MethodName)) ∈ lw_all := lw_g (lw_at lw_m4 24 rfl) rfl
theorem q1210 : (Jvm.Cond.instanceMethod ({ cls := "CircuitCells$Not", name := "by", desc := "(LCircuitCells$View;)I" } : Jvm.MethodName)) ∈ lw_all := lw_g (lw_at lw_m5 135 rfl) rfl
theorem q1211 : (Jvm.Cond.code ({ cls := "CircuitCells$Not", name := "by", desc := "(LCircuitCells$View;)I" } : Jvm.MethodName) prog_12_method_2_code (2 : Nat) (Option.some Jvm.ClassFile.FieldType.int)) ∈ lw_all := lw_g (lw_at lw_m5 136 rfl) rfl
theorem q1212 : (Jvm.Cond.methodLink "CircuitCells$Not" (13 : Nat) ({ cls := "CircuitCells$Expr", name := "by", desc := "(LCircuitCells$View;)I" } : Jvm.MethodName)) ∈ lw_all := lw_g (lw_at lw_m5 137 rfl) rfl
theorem q1218 : (Jvm.Cond.selects "CircuitCells$Not" ({ cls := "CircuitCells$Expr", name := "by", desc := "(LCircuitCells$View;)I" } : Jvm.MethodName) ({ cls := "CircuitCells$Not", name := "by", desc := "(LCircuitCells$View;)I" } : Jvm.MethodName)) ∈ lw_all := lw_g (lw_at lw_m5 143 rfl) rfl
theorem q1733 : (Jvm.Cond.instantiable "CircuitCells$Not" (1 : Nat)) ∈ lw_all := lw_g (lw_at lw_m7 178 rfl) rfl
theorem q1735 : (Jvm.Cond.instanceMethod ({ cls := "CircuitCells$Not", name := "<init>", desc := "(LCircuitCells$Expr;)V" } : Jvm.MethodName)) ∈ lw_all := lw_g (lw_at lw_m7 180 rfl) rfl
theorem q1736 : (Jvm.Cond.code ({ cls := "CircuitCells$Not", name := "<init>", desc := "(LCircuitCells$Expr;)V" } : Jvm.MethodName) prog_12_method_1_code (2 : Nat) (Option.none : Option Jvm.ClassFile.FieldType)) ∈ lw_all := lw_g (lw_at lw_m7 181 rfl) rfl
theorem q1737 : (Jvm.Cond.methodLinkNest "CircuitCells$Not" (1 : Nat) ({ cls := "CircuitCells$Expr", name := "<init>", desc := "()V" } : Jvm.MethodName) "CircuitCells") ∈ lw_tbl := lw_at lw_m7 182 rfl
theorem q1738 : (Jvm.Cond.fieldLink "CircuitCells$Not" (7 : Nat) "CircuitCells$Not" "part" "LCircuitCells$Expr;") ∈ lw_all := lw_g (lw_at lw_m7 183 rfl) rfl
theorem q1739 : (Jvm.Cond.laysFinal "CircuitCells$Not" "CircuitCells$Not" "part" "LCircuitCells$Expr;") ∈ lw_all := lw_g (lw_at lw_m7 184 rfl) rfl
theorem q1740 : (Jvm.Cond.soleField "CircuitCells$Not" "part") ∈ lw_all := lw_g (lw_at lw_m7 185 rfl) rfl
theorem q1741 : (Jvm.Cond.superclass "CircuitCells$Not" "CircuitCells$Expr") ∈ lw_all := lw_g (lw_at lw_m7 186 rfl) rfl
theorem q2988 : (Jvm.Cond.castable "CircuitCells$Not" "java/lang/Object") ∈ lw_tbl := lw_at lw_m12 233 rfl

theorem q149 : (Jvm.Cond.initialized "CircuitCells$Sort") ∈ lw_all := lw_g (lw_at lw_m1 34 rfl) rfl
set_option maxRecDepth 100000
theorem q862 : (Jvm.Cond.selects "CircuitCells$Sort" ({ cls := "java/lang/Object", name := "getClass", desc := "()Ljava/lang/Class;" } : Jvm.MethodName) ({ cls := "java/lang/Object", name := "getClass", desc := "()Ljava/lang/Class;" } : Jvm.MethodName)) ∈ lw_all := lw_g (lw_at lw_m4 27 rfl) rfl
theorem q1394 : (Jvm.Cond.laysStatic "CircuitCells$Sort" "END" "LCircuitCells$Sort;") ∈ lw_tbl := lw_at lw_m6 79 rfl
theorem q1425 : (Jvm.Cond.laysStatic "CircuitCells$Sort" "WORD" "LCircuitCells$Sort;") ∈ lw_tbl := lw_at lw_m6 110 rfl
theorem q1430 : (Jvm.Cond.laysStatic "CircuitCells$Sort" "NUMBER" "LCircuitCells$Sort;") ∈ lw_tbl := lw_at lw_m6 115 rfl
theorem q1435 : (Jvm.Cond.laysStatic "CircuitCells$Sort" "SIGN" "LCircuitCells$Sort;") ∈ lw_tbl := lw_at lw_m6 120 rfl
theorem q1437 : (Jvm.Cond.laysStatic "CircuitCells$Sort" "BAD" "LCircuitCells$Sort;") ∈ lw_tbl := lw_at lw_m6 122 rfl
theorem q2981 : (Jvm.Cond.castable "CircuitCells$Sort" "java/lang/Object") ∈ lw_tbl := lw_at lw_m12 226 rfl
