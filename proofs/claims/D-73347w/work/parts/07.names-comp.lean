set_option maxRecDepth 100000
abbrev cX6_init : ByteArray := prog_16_method_1_code
def yX6_init : MethodName := ⟨RX6, "<init>", "()V"⟩
def dkwX6_init_3 : List UInt8 := [17, 0, 128, 183, 0, 35, 181, 0, 38, 177]
abbrev dktX6_init_3 : List UInt8 := dkwX6_init_3 ++ []
def dkwX6_init_2 : List UInt8 := [17, 0, 128, 188, 10, 181, 0, 27, 42, 17, 0, 128, 188, 10, 181, 0, 30, 42, 187, 0, 33, 89]
abbrev dktX6_init_2 : List UInt8 := dkwX6_init_2 ++ dktX6_init_3
def dkwX6_init_1 : List UInt8 := [188, 10, 181, 0, 18, 42, 16, 64, 188, 10, 181, 0, 21, 42, 16, 64, 188, 10, 181, 0, 24, 42]
abbrev dktX6_init_1 : List UInt8 := dkwX6_init_1 ++ dktX6_init_2
def dkwX6_init_0 : List UInt8 := [42, 183, 0, 3, 42, 16, 40, 188, 10, 181, 0, 9, 42, 16, 40, 188, 10, 181, 0, 15, 42, 16, 40]
abbrev dktX6_init_0 : List UInt8 := dkwX6_init_0 ++ dktX6_init_1
theorem dksX6_init_0 : cX6_init.data.toList.drop 0 = dktX6_init_0 := by decide +kernel
theorem dksX6_init_1 : cX6_init.data.toList.drop 23 = dktX6_init_1 := dk_seg dksX6_init_0 23 rfl rfl
theorem dksX6_init_2 : cX6_init.data.toList.drop 45 = dktX6_init_2 := dk_seg dksX6_init_1 22 rfl rfl
theorem dksX6_init_3 : cX6_init.data.toList.drop 67 = dktX6_init_3 := dk_seg dksX6_init_2 22 rfl rfl
theorem dX6_init_0 : decode cX6_init 0 = .ok (.aload_n 0, 1) := dk_42 (dk_at dksX6_init_0 0 rfl rfl)
theorem dX6_init_1 : decode cX6_init 1 = .ok (.invokespecial 3, 3) := dk_183 0 3 (dk_at dksX6_init_0 1 rfl rfl)
theorem dX6_init_4 : decode cX6_init 4 = .ok (.aload_n 0, 1) := dk_42 (dk_at dksX6_init_0 4 rfl rfl)
theorem dX6_init_5 : decode cX6_init 5 = .ok (.bipush 40, 2) := dk_16 40 (dk_at dksX6_init_0 5 rfl rfl)
theorem dX6_init_7 : decode cX6_init 7 = .ok (.newarray .int, 2) := dk_188_10 (dk_at dksX6_init_0 7 rfl rfl)
theorem dX6_init_9 : decode cX6_init 9 = .ok (.putfield 9, 3) := dk_181 0 9 (dk_at dksX6_init_0 9 rfl rfl)
theorem dX6_init_12 : decode cX6_init 12 = .ok (.aload_n 0, 1) := dk_42 (dk_at dksX6_init_0 12 rfl rfl)
theorem dX6_init_13 : decode cX6_init 13 = .ok (.bipush 40, 2) := dk_16 40 (dk_at dksX6_init_0 13 rfl rfl)
theorem dX6_init_15 : decode cX6_init 15 = .ok (.newarray .int, 2) := dk_188_10 (dk_at dksX6_init_0 15 rfl rfl)
theorem dX6_init_17 : decode cX6_init 17 = .ok (.putfield 15, 3) := dk_181 0 15 (dk_at dksX6_init_0 17 rfl rfl)
theorem dX6_init_20 : decode cX6_init 20 = .ok (.aload_n 0, 1) := dk_42 (dk_at dksX6_init_0 20 rfl rfl)
theorem dX6_init_21 : decode cX6_init 21 = .ok (.bipush 40, 2) := dk_16 40 (dk_at dksX6_init_0 21 rfl rfl)
theorem dX6_init_23 : decode cX6_init 23 = .ok (.newarray .int, 2) := dk_188_10 (dk_at dksX6_init_1 0 rfl rfl)
theorem dX6_init_25 : decode cX6_init 25 = .ok (.putfield 18, 3) := dk_181 0 18 (dk_at dksX6_init_1 2 rfl rfl)
theorem dX6_init_28 : decode cX6_init 28 = .ok (.aload_n 0, 1) := dk_42 (dk_at dksX6_init_1 5 rfl rfl)
theorem dX6_init_29 : decode cX6_init 29 = .ok (.bipush 64, 2) := dk_16 64 (dk_at dksX6_init_1 6 rfl rfl)
theorem dX6_init_31 : decode cX6_init 31 = .ok (.newarray .int, 2) := dk_188_10 (dk_at dksX6_init_1 8 rfl rfl)
theorem dX6_init_33 : decode cX6_init 33 = .ok (.putfield 21, 3) := dk_181 0 21 (dk_at dksX6_init_1 10 rfl rfl)
theorem dX6_init_36 : decode cX6_init 36 = .ok (.aload_n 0, 1) := dk_42 (dk_at dksX6_init_1 13 rfl rfl)
theorem dX6_init_37 : decode cX6_init 37 = .ok (.bipush 64, 2) := dk_16 64 (dk_at dksX6_init_1 14 rfl rfl)
theorem dX6_init_39 : decode cX6_init 39 = .ok (.newarray .int, 2) := dk_188_10 (dk_at dksX6_init_1 16 rfl rfl)
theorem dX6_init_41 : decode cX6_init 41 = .ok (.putfield 24, 3) := dk_181 0 24 (dk_at dksX6_init_1 18 rfl rfl)
theorem dX6_init_44 : decode cX6_init 44 = .ok (.aload_n 0, 1) := dk_42 (dk_at dksX6_init_1 21 rfl rfl)
theorem dX6_init_45 : decode cX6_init 45 = .ok (.sipush 128, 3) := dk_17 0 128 (dk_at dksX6_init_2 0 rfl rfl)
theorem dX6_init_48 : decode cX6_init 48 = .ok (.newarray .int, 2) := dk_188_10 (dk_at dksX6_init_2 3 rfl rfl)
theorem dX6_init_50 : decode cX6_init 50 = .ok (.putfield 27, 3) := dk_181 0 27 (dk_at dksX6_init_2 5 rfl rfl)
theorem dX6_init_53 : decode cX6_init 53 = .ok (.aload_n 0, 1) := dk_42 (dk_at dksX6_init_2 8 rfl rfl)
theorem dX6_init_54 : decode cX6_init 54 = .ok (.sipush 128, 3) := dk_17 0 128 (dk_at dksX6_init_2 9 rfl rfl)
theorem dX6_init_57 : decode cX6_init 57 = .ok (.newarray .int, 2) := dk_188_10 (dk_at dksX6_init_2 12 rfl rfl)
theorem dX6_init_59 : decode cX6_init 59 = .ok (.putfield 30, 3) := dk_181 0 30 (dk_at dksX6_init_2 14 rfl rfl)
theorem dX6_init_62 : decode cX6_init 62 = .ok (.aload_n 0, 1) := dk_42 (dk_at dksX6_init_2 17 rfl rfl)
theorem dX6_init_63 : decode cX6_init 63 = .ok (.new 33, 3) := dk_187 0 33 (dk_at dksX6_init_2 18 rfl rfl)
theorem dX6_init_66 : decode cX6_init 66 = .ok (.dup, 1) := dk_89 (dk_at dksX6_init_2 21 rfl rfl)
theorem dX6_init_67 : decode cX6_init 67 = .ok (.sipush 128, 3) := dk_17 0 128 (dk_at dksX6_init_3 0 rfl rfl)
theorem dX6_init_70 : decode cX6_init 70 = .ok (.invokespecial 35, 3) := dk_183 0 35 (dk_at dksX6_init_3 3 rfl rfl)
theorem dX6_init_73 : decode cX6_init 73 = .ok (.putfield 38, 3) := dk_181 0 38 (dk_at dksX6_init_3 6 rfl rfl)
theorem dX6_init_76 : decode cX6_init 76 = .ok (.return_, 1) := dk_177 (dk_at dksX6_init_3 9 rfl rfl)
abbrev cX6_back : ByteArray := prog_16_method_14_code
def yX6_back : MethodName := ⟨RX6, "back", "(I)I"⟩
def dkwX6_back_1 : List UInt8 := [17, 0, 128, 112, 46, 172]
abbrev dktX6_back_1 : List UInt8 := dkwX6_back_1 ++ []
def dkwX6_back_0 : List UInt8 := [27, 42, 180, 0, 46, 164, 0, 8, 16, 126, 167, 0, 18, 42, 180, 0, 27, 42, 180, 0, 46, 27, 100]
abbrev dktX6_back_0 : List UInt8 := dkwX6_back_0 ++ dktX6_back_1
theorem dksX6_back_0 : cX6_back.data.toList.drop 0 = dktX6_back_0 := by decide +kernel
theorem dksX6_back_1 : cX6_back.data.toList.drop 23 = dktX6_back_1 := dk_seg dksX6_back_0 23 rfl rfl
theorem dX6_back_0 : decode cX6_back 0 = .ok (.iload_n 1, 1) := dk_27 (dk_at dksX6_back_0 0 rfl rfl)
theorem dX6_back_1 : decode cX6_back 1 = .ok (.aload_n 0, 1) := dk_42 (dk_at dksX6_back_0 1 rfl rfl)
theorem dX6_back_2 : decode cX6_back 2 = .ok (.getfield 46, 3) := dk_180 0 46 (dk_at dksX6_back_0 2 rfl rfl)
theorem dX6_back_5 : decode cX6_back 5 = .ok (.if_icmp .le 8, 3) := dk_164 0 8 (dk_at dksX6_back_0 5 rfl rfl)
theorem dX6_back_8 : decode cX6_back 8 = .ok (.bipush 126, 2) := dk_16 126 (dk_at dksX6_back_0 8 rfl rfl)
theorem dX6_back_10 : decode cX6_back 10 = .ok (.goto 18, 3) := dk_167 0 18 (dk_at dksX6_back_0 10 rfl rfl)
theorem dX6_back_13 : decode cX6_back 13 = .ok (.aload_n 0, 1) := dk_42 (dk_at dksX6_back_0 13 rfl rfl)
theorem dX6_back_14 : decode cX6_back 14 = .ok (.getfield 27, 3) := dk_180 0 27 (dk_at dksX6_back_0 14 rfl rfl)
theorem dX6_back_17 : decode cX6_back 17 = .ok (.aload_n 0, 1) := dk_42 (dk_at dksX6_back_0 17 rfl rfl)
theorem dX6_back_18 : decode cX6_back 18 = .ok (.getfield 46, 3) := dk_180 0 46 (dk_at dksX6_back_0 18 rfl rfl)
theorem dX6_back_21 : decode cX6_back 21 = .ok (.iload_n 1, 1) := dk_27 (dk_at dksX6_back_0 21 rfl rfl)
theorem dX6_back_22 : decode cX6_back 22 = .ok (.isub, 1) := dk_100 (dk_at dksX6_back_0 22 rfl rfl)
theorem dX6_back_23 : decode cX6_back 23 = .ok (.sipush 128, 3) := dk_17 0 128 (dk_at dksX6_back_1 0 rfl rfl)
theorem dX6_back_26 : decode cX6_back 26 = .ok (.irem, 1) := dk_112 (dk_at dksX6_back_1 3 rfl rfl)
theorem dX6_back_27 : decode cX6_back 27 = .ok (.iaload, 1) := dk_46 (dk_at dksX6_back_1 4 rfl rfl)
theorem dX6_back_28 : decode cX6_back 28 = .ok (.ireturn, 1) := dk_172 (dk_at dksX6_back_1 5 rfl rfl)
abbrev cX6_level : ByteArray := prog_16_method_12_code
def yX6_level : MethodName := ⟨RX6, "level", "(LCircuitCells$Line;)I"⟩
def dkwX6_level_3 : List UInt8 := [180, 0, 115, 100, 172]
abbrev dktX6_level_3 : List UInt8 := dkwX6_level_3 ++ []
def dkwX6_level_2 : List UInt8 := [132, 3, 1, 167, 255, 218, 28, 2, 160, 0, 7, 3, 167, 0, 16, 28, 4, 96, 43, 180, 0, 253, 104, 42]
abbrev dktX6_level_2 : List UInt8 := dkwX6_level_2 ++ dktX6_level_3
def dkwX6_level_1 : List UInt8 := [46, 42, 180, 0, 115, 43, 180, 0, 253, 108, 161, 0, 14, 28, 42, 180, 0, 21, 29, 46, 184, 0, 203, 61]
abbrev dktX6_level_1 : List UInt8 := dkwX6_level_1 ++ dktX6_level_2
def dkwX6_level_0 : List UInt8 := [42, 180, 0, 67, 154, 0, 5, 3, 172, 2, 61, 3, 62, 29, 16, 64, 162, 0, 38, 42, 180, 0, 21, 29]
abbrev dktX6_level_0 : List UInt8 := dkwX6_level_0 ++ dktX6_level_1
theorem dksX6_level_0 : cX6_level.data.toList.drop 0 = dktX6_level_0 := by decide +kernel
theorem dksX6_level_1 : cX6_level.data.toList.drop 24 = dktX6_level_1 := dk_seg dksX6_level_0 24 rfl rfl
theorem dksX6_level_2 : cX6_level.data.toList.drop 48 = dktX6_level_2 := dk_seg dksX6_level_1 24 rfl rfl
theorem dksX6_level_3 : cX6_level.data.toList.drop 72 = dktX6_level_3 := dk_seg dksX6_level_2 24 rfl rfl
theorem dX6_level_0 : decode cX6_level 0 = .ok (.aload_n 0, 1) := dk_42 (dk_at dksX6_level_0 0 rfl rfl)
theorem dX6_level_1 : decode cX6_level 1 = .ok (.getfield 67, 3) := dk_180 0 67 (dk_at dksX6_level_0 1 rfl rfl)
theorem dX6_level_4 : decode cX6_level 4 = .ok (.ifCond .ne 5, 3) := dk_154 0 5 (dk_at dksX6_level_0 4 rfl rfl)
theorem dX6_level_7 : decode cX6_level 7 = .ok (.iconst 0, 1) := dk_3 (dk_at dksX6_level_0 7 rfl rfl)
theorem dX6_level_8 : decode cX6_level 8 = .ok (.ireturn, 1) := dk_172 (dk_at dksX6_level_0 8 rfl rfl)
theorem dX6_level_9 : decode cX6_level 9 = .ok (.iconst (-1), 1) := dk_2 (dk_at dksX6_level_0 9 rfl rfl)
theorem dX6_level_10 : decode cX6_level 10 = .ok (.istore_n 2, 1) := dk_61 (dk_at dksX6_level_0 10 rfl rfl)
theorem dX6_level_11 : decode cX6_level 11 = .ok (.iconst 0, 1) := dk_3 (dk_at dksX6_level_0 11 rfl rfl)
theorem dX6_level_12 : decode cX6_level 12 = .ok (.istore_n 3, 1) := dk_62 (dk_at dksX6_level_0 12 rfl rfl)
theorem dX6_level_13 : decode cX6_level 13 = .ok (.iload_n 3, 1) := dk_29 (dk_at dksX6_level_0 13 rfl rfl)
theorem dX6_level_14 : decode cX6_level 14 = .ok (.bipush 64, 2) := dk_16 64 (dk_at dksX6_level_0 14 rfl rfl)
theorem dX6_level_16 : decode cX6_level 16 = .ok (.if_icmp .ge 38, 3) := dk_162 0 38 (dk_at dksX6_level_0 16 rfl rfl)
theorem dX6_level_19 : decode cX6_level 19 = .ok (.aload_n 0, 1) := dk_42 (dk_at dksX6_level_0 19 rfl rfl)
theorem dX6_level_20 : decode cX6_level 20 = .ok (.getfield 21, 3) := dk_180 0 21 (dk_at dksX6_level_0 20 rfl rfl)
theorem dX6_level_23 : decode cX6_level 23 = .ok (.iload_n 3, 1) := dk_29 (dk_at dksX6_level_0 23 rfl rfl)
theorem dX6_level_24 : decode cX6_level 24 = .ok (.iaload, 1) := dk_46 (dk_at dksX6_level_1 0 rfl rfl)
theorem dX6_level_25 : decode cX6_level 25 = .ok (.aload_n 0, 1) := dk_42 (dk_at dksX6_level_1 1 rfl rfl)
theorem dX6_level_26 : decode cX6_level 26 = .ok (.getfield 115, 3) := dk_180 0 115 (dk_at dksX6_level_1 2 rfl rfl)
theorem dX6_level_29 : decode cX6_level 29 = .ok (.aload_n 1, 1) := dk_43 (dk_at dksX6_level_1 5 rfl rfl)
theorem dX6_level_30 : decode cX6_level 30 = .ok (.getfield 253, 3) := dk_180 0 253 (dk_at dksX6_level_1 6 rfl rfl)
theorem dX6_level_33 : decode cX6_level 33 = .ok (.idiv, 1) := dk_108 (dk_at dksX6_level_1 9 rfl rfl)
theorem dX6_level_34 : decode cX6_level 34 = .ok (.if_icmp .lt 14, 3) := dk_161 0 14 (dk_at dksX6_level_1 10 rfl rfl)
theorem dX6_level_37 : decode cX6_level 37 = .ok (.iload_n 2, 1) := dk_28 (dk_at dksX6_level_1 13 rfl rfl)
theorem dX6_level_38 : decode cX6_level 38 = .ok (.aload_n 0, 1) := dk_42 (dk_at dksX6_level_1 14 rfl rfl)
theorem dX6_level_39 : decode cX6_level 39 = .ok (.getfield 21, 3) := dk_180 0 21 (dk_at dksX6_level_1 15 rfl rfl)
theorem dX6_level_42 : decode cX6_level 42 = .ok (.iload_n 3, 1) := dk_29 (dk_at dksX6_level_1 18 rfl rfl)
theorem dX6_level_43 : decode cX6_level 43 = .ok (.iaload, 1) := dk_46 (dk_at dksX6_level_1 19 rfl rfl)
theorem dX6_level_44 : decode cX6_level 44 = .ok (.invokestatic 203, 3) := dk_184 0 203 (dk_at dksX6_level_1 20 rfl rfl)
theorem dX6_level_47 : decode cX6_level 47 = .ok (.istore_n 2, 1) := dk_61 (dk_at dksX6_level_1 23 rfl rfl)
theorem dX6_level_48 : decode cX6_level 48 = .ok (.iinc 3 1, 3) := dk_132 3 1 (dk_at dksX6_level_2 0 rfl rfl)
theorem dX6_level_51 : decode cX6_level 51 = .ok (.goto (-38), 3) := dk_167 255 218 (dk_at dksX6_level_2 3 rfl rfl)
theorem dX6_level_54 : decode cX6_level 54 = .ok (.iload_n 2, 1) := dk_28 (dk_at dksX6_level_2 6 rfl rfl)
theorem dX6_level_55 : decode cX6_level 55 = .ok (.iconst (-1), 1) := dk_2 (dk_at dksX6_level_2 7 rfl rfl)
theorem dX6_level_56 : decode cX6_level 56 = .ok (.if_icmp .ne 7, 3) := dk_160 0 7 (dk_at dksX6_level_2 8 rfl rfl)
theorem dX6_level_59 : decode cX6_level 59 = .ok (.iconst 0, 1) := dk_3 (dk_at dksX6_level_2 11 rfl rfl)
theorem dX6_level_60 : decode cX6_level 60 = .ok (.goto 16, 3) := dk_167 0 16 (dk_at dksX6_level_2 12 rfl rfl)
theorem dX6_level_63 : decode cX6_level 63 = .ok (.iload_n 2, 1) := dk_28 (dk_at dksX6_level_2 15 rfl rfl)
theorem dX6_level_64 : decode cX6_level 64 = .ok (.iconst 1, 1) := dk_4 (dk_at dksX6_level_2 16 rfl rfl)
theorem dX6_level_65 : decode cX6_level 65 = .ok (.iadd, 1) := dk_96 (dk_at dksX6_level_2 17 rfl rfl)
theorem dX6_level_66 : decode cX6_level 66 = .ok (.aload_n 1, 1) := dk_43 (dk_at dksX6_level_2 18 rfl rfl)
theorem dX6_level_67 : decode cX6_level 67 = .ok (.getfield 253, 3) := dk_180 0 253 (dk_at dksX6_level_2 19 rfl rfl)
theorem dX6_level_70 : decode cX6_level 70 = .ok (.imul, 1) := dk_104 (dk_at dksX6_level_2 22 rfl rfl)
theorem dX6_level_71 : decode cX6_level 71 = .ok (.aload_n 0, 1) := dk_42 (dk_at dksX6_level_2 23 rfl rfl)
theorem dX6_level_72 : decode cX6_level 72 = .ok (.getfield 115, 3) := dk_180 0 115 (dk_at dksX6_level_3 0 rfl rfl)
theorem dX6_level_75 : decode cX6_level 75 = .ok (.isub, 1) := dk_100 (dk_at dksX6_level_3 3 rfl rfl)
theorem dX6_level_76 : decode cX6_level 76 = .ok (.ireturn, 1) := dk_172 (dk_at dksX6_level_3 4 rfl rfl)
abbrev cX6_begins : ByteArray := prog_16_method_2_code
def yX6_begins : MethodName := ⟨RX6, "begins", "(LCircuitCells$Line;)V"⟩
def dkwX6_begins_7 : List UInt8 := [181, 0, 142, 42, 43, 180, 0, 143, 181, 0, 146, 42, 43, 180, 0, 147, 181, 0, 150, 42, 182, 0, 151, 177]
abbrev dktX6_begins_7 : List UInt8 := dkwX6_begins_7 ++ []
def dkwX6_begins_6 : List UInt8 := [181, 0, 124, 90, 181, 0, 127, 181, 0, 130, 42, 43, 180, 0, 133, 181, 0, 138, 42, 43, 180, 0, 139]
abbrev dktX6_begins_6 : List UInt8 := dkwX6_begins_6 ++ dktX6_begins_7
def dkwX6_begins_5 : List UInt8 := [181, 0, 106, 90, 181, 0, 109, 90, 181, 0, 112, 90, 181, 0, 115, 90, 181, 0, 118, 90, 181, 0, 121, 90]
abbrev dktX6_begins_5 : List UInt8 := dkwX6_begins_5 ++ dktX6_begins_6
def dkwX6_begins_4 : List UInt8 := [181, 0, 88, 90, 181, 0, 91, 90, 181, 0, 94, 90, 181, 0, 97, 90, 181, 0, 100, 90, 181, 0, 103, 90]
abbrev dktX6_begins_4 : List UInt8 := dkwX6_begins_4 ++ dktX6_begins_5
def dkwX6_begins_3 : List UInt8 := [181, 0, 70, 90, 181, 0, 73, 90, 181, 0, 76, 90, 181, 0, 79, 90, 181, 0, 82, 90, 181, 0, 85, 90]
abbrev dktX6_begins_3 : List UInt8 := dkwX6_begins_3 ++ dktX6_begins_4
def dkwX6_begins_2 : List UInt8 := [42, 42, 42, 42, 42, 42, 42, 42, 42, 42, 42, 42, 42, 42, 42, 42, 42, 42, 42, 42, 3, 90]
abbrev dktX6_begins_2 : List UInt8 := dkwX6_begins_2 ++ dktX6_begins_3
def dkwX6_begins_1 : List UInt8 := [181, 0, 52, 90, 181, 0, 55, 90, 181, 0, 58, 90, 181, 0, 61, 181, 0, 64, 42, 3, 181, 0, 67, 42]
abbrev dktX6_begins_1 : List UInt8 := dkwX6_begins_1 ++ dktX6_begins_2
def dkwX6_begins_0 : List UInt8 := [42, 42, 42, 42, 42, 42, 42, 42, 3, 90, 181, 0, 42, 90, 181, 0, 46, 90, 181, 0, 49, 90]
abbrev dktX6_begins_0 : List UInt8 := dkwX6_begins_0 ++ dktX6_begins_1
theorem dksX6_begins_0 : cX6_begins.data.toList.drop 0 = dktX6_begins_0 := by decide +kernel
theorem dksX6_begins_1 : cX6_begins.data.toList.drop 22 = dktX6_begins_1 := dk_seg dksX6_begins_0 22 rfl rfl
theorem dksX6_begins_2 : cX6_begins.data.toList.drop 46 = dktX6_begins_2 := dk_seg dksX6_begins_1 24 rfl rfl
theorem dksX6_begins_3 : cX6_begins.data.toList.drop 68 = dktX6_begins_3 := dk_seg dksX6_begins_2 22 rfl rfl
theorem dksX6_begins_4 : cX6_begins.data.toList.drop 92 = dktX6_begins_4 := dk_seg dksX6_begins_3 24 rfl rfl
theorem dksX6_begins_5 : cX6_begins.data.toList.drop 116 = dktX6_begins_5 := dk_seg dksX6_begins_4 24 rfl rfl
theorem dksX6_begins_6 : cX6_begins.data.toList.drop 140 = dktX6_begins_6 := dk_seg dksX6_begins_5 24 rfl rfl
theorem dksX6_begins_7 : cX6_begins.data.toList.drop 163 = dktX6_begins_7 := dk_seg dksX6_begins_6 23 rfl rfl
theorem dX6_begins_0 : decode cX6_begins 0 = .ok (.aload_n 0, 1) := dk_42 (dk_at dksX6_begins_0 0 rfl rfl)
theorem dX6_begins_1 : decode cX6_begins 1 = .ok (.aload_n 0, 1) := dk_42 (dk_at dksX6_begins_0 1 rfl rfl)
theorem dX6_begins_2 : decode cX6_begins 2 = .ok (.aload_n 0, 1) := dk_42 (dk_at dksX6_begins_0 2 rfl rfl)
theorem dX6_begins_3 : decode cX6_begins 3 = .ok (.aload_n 0, 1) := dk_42 (dk_at dksX6_begins_0 3 rfl rfl)
theorem dX6_begins_4 : decode cX6_begins 4 = .ok (.aload_n 0, 1) := dk_42 (dk_at dksX6_begins_0 4 rfl rfl)
theorem dX6_begins_5 : decode cX6_begins 5 = .ok (.aload_n 0, 1) := dk_42 (dk_at dksX6_begins_0 5 rfl rfl)
theorem dX6_begins_6 : decode cX6_begins 6 = .ok (.aload_n 0, 1) := dk_42 (dk_at dksX6_begins_0 6 rfl rfl)
theorem dX6_begins_7 : decode cX6_begins 7 = .ok (.aload_n 0, 1) := dk_42 (dk_at dksX6_begins_0 7 rfl rfl)
theorem dX6_begins_8 : decode cX6_begins 8 = .ok (.iconst 0, 1) := dk_3 (dk_at dksX6_begins_0 8 rfl rfl)
theorem dX6_begins_9 : decode cX6_begins 9 = .ok (.dup_x1, 1) := dk_90 (dk_at dksX6_begins_0 9 rfl rfl)
theorem dX6_begins_10 : decode cX6_begins 10 = .ok (.putfield 42, 3) := dk_181 0 42 (dk_at dksX6_begins_0 10 rfl rfl)
theorem dX6_begins_13 : decode cX6_begins 13 = .ok (.dup_x1, 1) := dk_90 (dk_at dksX6_begins_0 13 rfl rfl)
theorem dX6_begins_14 : decode cX6_begins 14 = .ok (.putfield 46, 3) := dk_181 0 46 (dk_at dksX6_begins_0 14 rfl rfl)
theorem dX6_begins_17 : decode cX6_begins 17 = .ok (.dup_x1, 1) := dk_90 (dk_at dksX6_begins_0 17 rfl rfl)
theorem dX6_begins_18 : decode cX6_begins 18 = .ok (.putfield 49, 3) := dk_181 0 49 (dk_at dksX6_begins_0 18 rfl rfl)
theorem dX6_begins_21 : decode cX6_begins 21 = .ok (.dup_x1, 1) := dk_90 (dk_at dksX6_begins_0 21 rfl rfl)
theorem dX6_begins_22 : decode cX6_begins 22 = .ok (.putfield 52, 3) := dk_181 0 52 (dk_at dksX6_begins_1 0 rfl rfl)
theorem dX6_begins_25 : decode cX6_begins 25 = .ok (.dup_x1, 1) := dk_90 (dk_at dksX6_begins_1 3 rfl rfl)
theorem dX6_begins_26 : decode cX6_begins 26 = .ok (.putfield 55, 3) := dk_181 0 55 (dk_at dksX6_begins_1 4 rfl rfl)
theorem dX6_begins_29 : decode cX6_begins 29 = .ok (.dup_x1, 1) := dk_90 (dk_at dksX6_begins_1 7 rfl rfl)
theorem dX6_begins_30 : decode cX6_begins 30 = .ok (.putfield 58, 3) := dk_181 0 58 (dk_at dksX6_begins_1 8 rfl rfl)
theorem dX6_begins_33 : decode cX6_begins 33 = .ok (.dup_x1, 1) := dk_90 (dk_at dksX6_begins_1 11 rfl rfl)
theorem dX6_begins_34 : decode cX6_begins 34 = .ok (.putfield 61, 3) := dk_181 0 61 (dk_at dksX6_begins_1 12 rfl rfl)
theorem dX6_begins_37 : decode cX6_begins 37 = .ok (.putfield 64, 3) := dk_181 0 64 (dk_at dksX6_begins_1 15 rfl rfl)
theorem dX6_begins_40 : decode cX6_begins 40 = .ok (.aload_n 0, 1) := dk_42 (dk_at dksX6_begins_1 18 rfl rfl)
theorem dX6_begins_41 : decode cX6_begins 41 = .ok (.iconst 0, 1) := dk_3 (dk_at dksX6_begins_1 19 rfl rfl)
theorem dX6_begins_42 : decode cX6_begins 42 = .ok (.putfield 67, 3) := dk_181 0 67 (dk_at dksX6_begins_1 20 rfl rfl)
theorem dX6_begins_45 : decode cX6_begins 45 = .ok (.aload_n 0, 1) := dk_42 (dk_at dksX6_begins_1 23 rfl rfl)
theorem dX6_begins_46 : decode cX6_begins 46 = .ok (.aload_n 0, 1) := dk_42 (dk_at dksX6_begins_2 0 rfl rfl)
theorem dX6_begins_47 : decode cX6_begins 47 = .ok (.aload_n 0, 1) := dk_42 (dk_at dksX6_begins_2 1 rfl rfl)
theorem dX6_begins_48 : decode cX6_begins 48 = .ok (.aload_n 0, 1) := dk_42 (dk_at dksX6_begins_2 2 rfl rfl)
theorem dX6_begins_49 : decode cX6_begins 49 = .ok (.aload_n 0, 1) := dk_42 (dk_at dksX6_begins_2 3 rfl rfl)
theorem dX6_begins_50 : decode cX6_begins 50 = .ok (.aload_n 0, 1) := dk_42 (dk_at dksX6_begins_2 4 rfl rfl)
theorem dX6_begins_51 : decode cX6_begins 51 = .ok (.aload_n 0, 1) := dk_42 (dk_at dksX6_begins_2 5 rfl rfl)
theorem dX6_begins_52 : decode cX6_begins 52 = .ok (.aload_n 0, 1) := dk_42 (dk_at dksX6_begins_2 6 rfl rfl)
theorem dX6_begins_53 : decode cX6_begins 53 = .ok (.aload_n 0, 1) := dk_42 (dk_at dksX6_begins_2 7 rfl rfl)
theorem dX6_begins_54 : decode cX6_begins 54 = .ok (.aload_n 0, 1) := dk_42 (dk_at dksX6_begins_2 8 rfl rfl)
theorem dX6_begins_55 : decode cX6_begins 55 = .ok (.aload_n 0, 1) := dk_42 (dk_at dksX6_begins_2 9 rfl rfl)
theorem dX6_begins_56 : decode cX6_begins 56 = .ok (.aload_n 0, 1) := dk_42 (dk_at dksX6_begins_2 10 rfl rfl)
theorem dX6_begins_57 : decode cX6_begins 57 = .ok (.aload_n 0, 1) := dk_42 (dk_at dksX6_begins_2 11 rfl rfl)
theorem dX6_begins_58 : decode cX6_begins 58 = .ok (.aload_n 0, 1) := dk_42 (dk_at dksX6_begins_2 12 rfl rfl)
theorem dX6_begins_59 : decode cX6_begins 59 = .ok (.aload_n 0, 1) := dk_42 (dk_at dksX6_begins_2 13 rfl rfl)
theorem dX6_begins_60 : decode cX6_begins 60 = .ok (.aload_n 0, 1) := dk_42 (dk_at dksX6_begins_2 14 rfl rfl)
theorem dX6_begins_61 : decode cX6_begins 61 = .ok (.aload_n 0, 1) := dk_42 (dk_at dksX6_begins_2 15 rfl rfl)
theorem dX6_begins_62 : decode cX6_begins 62 = .ok (.aload_n 0, 1) := dk_42 (dk_at dksX6_begins_2 16 rfl rfl)
theorem dX6_begins_63 : decode cX6_begins 63 = .ok (.aload_n 0, 1) := dk_42 (dk_at dksX6_begins_2 17 rfl rfl)
theorem dX6_begins_64 : decode cX6_begins 64 = .ok (.aload_n 0, 1) := dk_42 (dk_at dksX6_begins_2 18 rfl rfl)
theorem dX6_begins_65 : decode cX6_begins 65 = .ok (.aload_n 0, 1) := dk_42 (dk_at dksX6_begins_2 19 rfl rfl)
theorem dX6_begins_66 : decode cX6_begins 66 = .ok (.iconst 0, 1) := dk_3 (dk_at dksX6_begins_2 20 rfl rfl)
theorem dX6_begins_67 : decode cX6_begins 67 = .ok (.dup_x1, 1) := dk_90 (dk_at dksX6_begins_2 21 rfl rfl)
theorem dX6_begins_68 : decode cX6_begins 68 = .ok (.putfield 70, 3) := dk_181 0 70 (dk_at dksX6_begins_3 0 rfl rfl)
theorem dX6_begins_71 : decode cX6_begins 71 = .ok (.dup_x1, 1) := dk_90 (dk_at dksX6_begins_3 3 rfl rfl)
theorem dX6_begins_72 : decode cX6_begins 72 = .ok (.putfield 73, 3) := dk_181 0 73 (dk_at dksX6_begins_3 4 rfl rfl)
theorem dX6_begins_75 : decode cX6_begins 75 = .ok (.dup_x1, 1) := dk_90 (dk_at dksX6_begins_3 7 rfl rfl)
theorem dX6_begins_76 : decode cX6_begins 76 = .ok (.putfield 76, 3) := dk_181 0 76 (dk_at dksX6_begins_3 8 rfl rfl)
theorem dX6_begins_79 : decode cX6_begins 79 = .ok (.dup_x1, 1) := dk_90 (dk_at dksX6_begins_3 11 rfl rfl)
theorem dX6_begins_80 : decode cX6_begins 80 = .ok (.putfield 79, 3) := dk_181 0 79 (dk_at dksX6_begins_3 12 rfl rfl)
theorem dX6_begins_83 : decode cX6_begins 83 = .ok (.dup_x1, 1) := dk_90 (dk_at dksX6_begins_3 15 rfl rfl)
theorem dX6_begins_84 : decode cX6_begins 84 = .ok (.putfield 82, 3) := dk_181 0 82 (dk_at dksX6_begins_3 16 rfl rfl)
theorem dX6_begins_87 : decode cX6_begins 87 = .ok (.dup_x1, 1) := dk_90 (dk_at dksX6_begins_3 19 rfl rfl)
theorem dX6_begins_88 : decode cX6_begins 88 = .ok (.putfield 85, 3) := dk_181 0 85 (dk_at dksX6_begins_3 20 rfl rfl)
theorem dX6_begins_91 : decode cX6_begins 91 = .ok (.dup_x1, 1) := dk_90 (dk_at dksX6_begins_3 23 rfl rfl)
theorem dX6_begins_92 : decode cX6_begins 92 = .ok (.putfield 88, 3) := dk_181 0 88 (dk_at dksX6_begins_4 0 rfl rfl)
theorem dX6_begins_95 : decode cX6_begins 95 = .ok (.dup_x1, 1) := dk_90 (dk_at dksX6_begins_4 3 rfl rfl)
theorem dX6_begins_96 : decode cX6_begins 96 = .ok (.putfield 91, 3) := dk_181 0 91 (dk_at dksX6_begins_4 4 rfl rfl)
theorem dX6_begins_99 : decode cX6_begins 99 = .ok (.dup_x1, 1) := dk_90 (dk_at dksX6_begins_4 7 rfl rfl)
theorem dX6_begins_100 : decode cX6_begins 100 = .ok (.putfield 94, 3) := dk_181 0 94 (dk_at dksX6_begins_4 8 rfl rfl)
theorem dX6_begins_103 : decode cX6_begins 103 = .ok (.dup_x1, 1) := dk_90 (dk_at dksX6_begins_4 11 rfl rfl)
theorem dX6_begins_104 : decode cX6_begins 104 = .ok (.putfield 97, 3) := dk_181 0 97 (dk_at dksX6_begins_4 12 rfl rfl)
theorem dX6_begins_107 : decode cX6_begins 107 = .ok (.dup_x1, 1) := dk_90 (dk_at dksX6_begins_4 15 rfl rfl)
theorem dX6_begins_108 : decode cX6_begins 108 = .ok (.putfield 100, 3) := dk_181 0 100 (dk_at dksX6_begins_4 16 rfl rfl)
theorem dX6_begins_111 : decode cX6_begins 111 = .ok (.dup_x1, 1) := dk_90 (dk_at dksX6_begins_4 19 rfl rfl)
theorem dX6_begins_112 : decode cX6_begins 112 = .ok (.putfield 103, 3) := dk_181 0 103 (dk_at dksX6_begins_4 20 rfl rfl)
theorem dX6_begins_115 : decode cX6_begins 115 = .ok (.dup_x1, 1) := dk_90 (dk_at dksX6_begins_4 23 rfl rfl)
theorem dX6_begins_116 : decode cX6_begins 116 = .ok (.putfield 106, 3) := dk_181 0 106 (dk_at dksX6_begins_5 0 rfl rfl)
theorem dX6_begins_119 : decode cX6_begins 119 = .ok (.dup_x1, 1) := dk_90 (dk_at dksX6_begins_5 3 rfl rfl)
theorem dX6_begins_120 : decode cX6_begins 120 = .ok (.putfield 109, 3) := dk_181 0 109 (dk_at dksX6_begins_5 4 rfl rfl)
theorem dX6_begins_123 : decode cX6_begins 123 = .ok (.dup_x1, 1) := dk_90 (dk_at dksX6_begins_5 7 rfl rfl)
theorem dX6_begins_124 : decode cX6_begins 124 = .ok (.putfield 112, 3) := dk_181 0 112 (dk_at dksX6_begins_5 8 rfl rfl)
theorem dX6_begins_127 : decode cX6_begins 127 = .ok (.dup_x1, 1) := dk_90 (dk_at dksX6_begins_5 11 rfl rfl)
theorem dX6_begins_128 : decode cX6_begins 128 = .ok (.putfield 115, 3) := dk_181 0 115 (dk_at dksX6_begins_5 12 rfl rfl)
theorem dX6_begins_131 : decode cX6_begins 131 = .ok (.dup_x1, 1) := dk_90 (dk_at dksX6_begins_5 15 rfl rfl)
theorem dX6_begins_132 : decode cX6_begins 132 = .ok (.putfield 118, 3) := dk_181 0 118 (dk_at dksX6_begins_5 16 rfl rfl)
theorem dX6_begins_135 : decode cX6_begins 135 = .ok (.dup_x1, 1) := dk_90 (dk_at dksX6_begins_5 19 rfl rfl)
theorem dX6_begins_136 : decode cX6_begins 136 = .ok (.putfield 121, 3) := dk_181 0 121 (dk_at dksX6_begins_5 20 rfl rfl)
theorem dX6_begins_139 : decode cX6_begins 139 = .ok (.dup_x1, 1) := dk_90 (dk_at dksX6_begins_5 23 rfl rfl)
theorem dX6_begins_140 : decode cX6_begins 140 = .ok (.putfield 124, 3) := dk_181 0 124 (dk_at dksX6_begins_6 0 rfl rfl)
theorem dX6_begins_143 : decode cX6_begins 143 = .ok (.dup_x1, 1) := dk_90 (dk_at dksX6_begins_6 3 rfl rfl)
theorem dX6_begins_144 : decode cX6_begins 144 = .ok (.putfield 127, 3) := dk_181 0 127 (dk_at dksX6_begins_6 4 rfl rfl)
theorem dX6_begins_147 : decode cX6_begins 147 = .ok (.putfield 130, 3) := dk_181 0 130 (dk_at dksX6_begins_6 7 rfl rfl)
theorem dX6_begins_150 : decode cX6_begins 150 = .ok (.aload_n 0, 1) := dk_42 (dk_at dksX6_begins_6 10 rfl rfl)
theorem dX6_begins_151 : decode cX6_begins 151 = .ok (.aload_n 1, 1) := dk_43 (dk_at dksX6_begins_6 11 rfl rfl)
theorem dX6_begins_152 : decode cX6_begins 152 = .ok (.getfield 133, 3) := dk_180 0 133 (dk_at dksX6_begins_6 12 rfl rfl)
theorem dX6_begins_155 : decode cX6_begins 155 = .ok (.putfield 138, 3) := dk_181 0 138 (dk_at dksX6_begins_6 15 rfl rfl)
theorem dX6_begins_158 : decode cX6_begins 158 = .ok (.aload_n 0, 1) := dk_42 (dk_at dksX6_begins_6 18 rfl rfl)
theorem dX6_begins_159 : decode cX6_begins 159 = .ok (.aload_n 1, 1) := dk_43 (dk_at dksX6_begins_6 19 rfl rfl)
theorem dX6_begins_160 : decode cX6_begins 160 = .ok (.getfield 139, 3) := dk_180 0 139 (dk_at dksX6_begins_6 20 rfl rfl)
theorem dX6_begins_163 : decode cX6_begins 163 = .ok (.putfield 142, 3) := dk_181 0 142 (dk_at dksX6_begins_7 0 rfl rfl)
theorem dX6_begins_166 : decode cX6_begins 166 = .ok (.aload_n 0, 1) := dk_42 (dk_at dksX6_begins_7 3 rfl rfl)
theorem dX6_begins_167 : decode cX6_begins 167 = .ok (.aload_n 1, 1) := dk_43 (dk_at dksX6_begins_7 4 rfl rfl)
theorem dX6_begins_168 : decode cX6_begins 168 = .ok (.getfield 143, 3) := dk_180 0 143 (dk_at dksX6_begins_7 5 rfl rfl)
theorem dX6_begins_171 : decode cX6_begins 171 = .ok (.putfield 146, 3) := dk_181 0 146 (dk_at dksX6_begins_7 8 rfl rfl)
theorem dX6_begins_174 : decode cX6_begins 174 = .ok (.aload_n 0, 1) := dk_42 (dk_at dksX6_begins_7 11 rfl rfl)
theorem dX6_begins_175 : decode cX6_begins 175 = .ok (.aload_n 1, 1) := dk_43 (dk_at dksX6_begins_7 12 rfl rfl)
theorem dX6_begins_176 : decode cX6_begins 176 = .ok (.getfield 147, 3) := dk_180 0 147 (dk_at dksX6_begins_7 13 rfl rfl)
theorem dX6_begins_179 : decode cX6_begins 179 = .ok (.putfield 150, 3) := dk_181 0 150 (dk_at dksX6_begins_7 16 rfl rfl)
theorem dX6_begins_182 : decode cX6_begins 182 = .ok (.aload_n 0, 1) := dk_42 (dk_at dksX6_begins_7 19 rfl rfl)
theorem dX6_begins_183 : decode cX6_begins 183 = .ok (.invokevirtual 151, 3) := dk_182 0 151 (dk_at dksX6_begins_7 20 rfl rfl)
theorem dX6_begins_186 : decode cX6_begins 186 = .ok (.return_, 1) := dk_177 (dk_at dksX6_begins_7 23 rfl rfl)
abbrev cX6_empties : ByteArray := prog_16_method_3_code
def yX6_empties : MethodName := ⟨RX6, "empties", "()V"⟩
def dkwX6_empties_0 : List UInt8 := [3, 60, 27, 16, 64, 162, 0, 16, 42, 180, 0, 21, 27, 2, 79, 132, 1, 1, 167, 255, 240, 177]
abbrev dktX6_empties_0 : List UInt8 := dkwX6_empties_0 ++ []
theorem dksX6_empties_0 : cX6_empties.data.toList.drop 0 = dktX6_empties_0 := by decide +kernel
theorem dX6_empties_0 : decode cX6_empties 0 = .ok (.iconst 0, 1) := dk_3 (dk_at dksX6_empties_0 0 rfl rfl)
theorem dX6_empties_1 : decode cX6_empties 1 = .ok (.istore_n 1, 1) := dk_60 (dk_at dksX6_empties_0 1 rfl rfl)
theorem dX6_empties_2 : decode cX6_empties 2 = .ok (.iload_n 1, 1) := dk_27 (dk_at dksX6_empties_0 2 rfl rfl)
theorem dX6_empties_3 : decode cX6_empties 3 = .ok (.bipush 64, 2) := dk_16 64 (dk_at dksX6_empties_0 3 rfl rfl)
theorem dX6_empties_5 : decode cX6_empties 5 = .ok (.if_icmp .ge 16, 3) := dk_162 0 16 (dk_at dksX6_empties_0 5 rfl rfl)
theorem dX6_empties_8 : decode cX6_empties 8 = .ok (.aload_n 0, 1) := dk_42 (dk_at dksX6_empties_0 8 rfl rfl)
theorem dX6_empties_9 : decode cX6_empties 9 = .ok (.getfield 21, 3) := dk_180 0 21 (dk_at dksX6_empties_0 9 rfl rfl)
theorem dX6_empties_12 : decode cX6_empties 12 = .ok (.iload_n 1, 1) := dk_27 (dk_at dksX6_empties_0 12 rfl rfl)
theorem dX6_empties_13 : decode cX6_empties 13 = .ok (.iconst (-1), 1) := dk_2 (dk_at dksX6_empties_0 13 rfl rfl)
theorem dX6_empties_14 : decode cX6_empties 14 = .ok (.iastore, 1) := dk_79 (dk_at dksX6_empties_0 14 rfl rfl)
theorem dX6_empties_15 : decode cX6_empties 15 = .ok (.iinc 1 1, 3) := dk_132 1 1 (dk_at dksX6_empties_0 15 rfl rfl)
theorem dX6_empties_18 : decode cX6_empties 18 = .ok (.goto (-16), 3) := dk_167 255 240 (dk_at dksX6_empties_0 18 rfl rfl)
theorem dX6_empties_21 : decode cX6_empties 21 = .ok (.return_, 1) := dk_177 (dk_at dksX6_empties_0 21 rfl rfl)
abbrev cX6_like : ByteArray := prog_16_method_5_code
def yX6_like : MethodName := ⟨RX6, "like", "(LCircuitCells$State;)V"⟩
def dkwX6_like_15 : List UInt8 := [42, 180, 0, 38, 43, 180, 0, 38, 182, 0, 167, 42, 3, 181, 0, 171, 177]
abbrev dktX6_like_15 : List UInt8 := dkwX6_like_15 ++ []
def dkwX6_like_14 : List UInt8 := [180, 0, 27, 184, 0, 160, 43, 180, 0, 30, 42, 180, 0, 30, 184, 0, 160, 42, 180, 0, 38, 182, 0, 164]
abbrev dktX6_like_14 : List UInt8 := dkwX6_like_14 ++ dktX6_like_15
def dkwX6_like_13 : List UInt8 := [180, 0, 21, 184, 0, 160, 43, 180, 0, 24, 42, 180, 0, 24, 184, 0, 160, 43, 180, 0, 27, 42]
abbrev dktX6_like_13 : List UInt8 := dkwX6_like_13 ++ dktX6_like_14
def dkwX6_like_12 : List UInt8 := [180, 0, 15, 184, 0, 160, 43, 180, 0, 18, 42, 180, 0, 18, 184, 0, 160, 43, 180, 0, 21, 42]
abbrev dktX6_like_12 : List UInt8 := dkwX6_like_12 ++ dktX6_like_13
def dkwX6_like_11 : List UInt8 := [42, 43, 180, 0, 70, 181, 0, 70, 43, 180, 0, 9, 42, 180, 0, 9, 184, 0, 160, 43, 180, 0, 15, 42]
abbrev dktX6_like_11 : List UInt8 := dkwX6_like_11 ++ dktX6_like_12
def dkwX6_like_10 : List UInt8 := [42, 43, 180, 0, 142, 181, 0, 142, 42, 43, 180, 0, 146, 181, 0, 146, 42, 43, 180, 0, 150, 181, 0, 150]
abbrev dktX6_like_10 : List UInt8 := dkwX6_like_10 ++ dktX6_like_11
def dkwX6_like_9 : List UInt8 := [42, 43, 180, 0, 76, 181, 0, 76, 42, 43, 180, 0, 138, 181, 0, 138, 42, 43, 180, 0, 73, 181, 0, 73]
abbrev dktX6_like_9 : List UInt8 := dkwX6_like_9 ++ dktX6_like_10
def dkwX6_like_8 : List UInt8 := [42, 43, 180, 0, 85, 181, 0, 85, 42, 43, 180, 0, 82, 181, 0, 82, 42, 43, 180, 0, 79, 181, 0, 79]
abbrev dktX6_like_8 : List UInt8 := dkwX6_like_8 ++ dktX6_like_9
def dkwX6_like_7 : List UInt8 := [42, 43, 180, 0, 94, 181, 0, 94, 42, 43, 180, 0, 91, 181, 0, 91, 42, 43, 180, 0, 88, 181, 0, 88]
abbrev dktX6_like_7 : List UInt8 := dkwX6_like_7 ++ dktX6_like_8
def dkwX6_like_6 : List UInt8 := [42, 43, 180, 0, 103, 181, 0, 103, 42, 43, 180, 0, 100, 181, 0, 100, 42, 43, 180, 0, 97, 181, 0, 97]
abbrev dktX6_like_6 : List UInt8 := dkwX6_like_6 ++ dktX6_like_7
def dkwX6_like_5 : List UInt8 := [42, 43, 180, 0, 112, 181, 0, 112, 42, 43, 180, 0, 109, 181, 0, 109, 42, 43, 180, 0, 106, 181, 0, 106]
abbrev dktX6_like_5 : List UInt8 := dkwX6_like_5 ++ dktX6_like_6
def dkwX6_like_4 : List UInt8 := [42, 43, 180, 0, 121, 181, 0, 121, 42, 43, 180, 0, 118, 181, 0, 118, 42, 43, 180, 0, 115, 181, 0, 115]
abbrev dktX6_like_4 : List UInt8 := dkwX6_like_4 ++ dktX6_like_5
def dkwX6_like_3 : List UInt8 := [42, 43, 180, 0, 130, 181, 0, 130, 42, 43, 180, 0, 127, 181, 0, 127, 42, 43, 180, 0, 124, 181, 0, 124]
abbrev dktX6_like_3 : List UInt8 := dkwX6_like_3 ++ dktX6_like_4
def dkwX6_like_2 : List UInt8 := [42, 43, 180, 0, 46, 181, 0, 46, 42, 43, 180, 0, 42, 181, 0, 42, 42, 43, 180, 0, 67, 181, 0, 67]
abbrev dktX6_like_2 : List UInt8 := dkwX6_like_2 ++ dktX6_like_3
def dkwX6_like_1 : List UInt8 := [42, 43, 180, 0, 55, 181, 0, 55, 42, 43, 180, 0, 52, 181, 0, 52, 42, 43, 180, 0, 49, 181, 0, 49]
abbrev dktX6_like_1 : List UInt8 := dkwX6_like_1 ++ dktX6_like_2
def dkwX6_like_0 : List UInt8 := [42, 43, 180, 0, 64, 181, 0, 64, 42, 43, 180, 0, 61, 181, 0, 61, 42, 43, 180, 0, 58, 181, 0, 58]
abbrev dktX6_like_0 : List UInt8 := dkwX6_like_0 ++ dktX6_like_1
theorem dksX6_like_0 : cX6_like.data.toList.drop 0 = dktX6_like_0 := by decide +kernel
theorem dksX6_like_1 : cX6_like.data.toList.drop 24 = dktX6_like_1 := dk_seg dksX6_like_0 24 rfl rfl
theorem dksX6_like_2 : cX6_like.data.toList.drop 48 = dktX6_like_2 := dk_seg dksX6_like_1 24 rfl rfl
theorem dksX6_like_3 : cX6_like.data.toList.drop 72 = dktX6_like_3 := dk_seg dksX6_like_2 24 rfl rfl
theorem dksX6_like_4 : cX6_like.data.toList.drop 96 = dktX6_like_4 := dk_seg dksX6_like_3 24 rfl rfl
theorem dksX6_like_5 : cX6_like.data.toList.drop 120 = dktX6_like_5 := dk_seg dksX6_like_4 24 rfl rfl
theorem dksX6_like_6 : cX6_like.data.toList.drop 144 = dktX6_like_6 := dk_seg dksX6_like_5 24 rfl rfl
theorem dksX6_like_7 : cX6_like.data.toList.drop 168 = dktX6_like_7 := dk_seg dksX6_like_6 24 rfl rfl
theorem dksX6_like_8 : cX6_like.data.toList.drop 192 = dktX6_like_8 := dk_seg dksX6_like_7 24 rfl rfl
theorem dksX6_like_9 : cX6_like.data.toList.drop 216 = dktX6_like_9 := dk_seg dksX6_like_8 24 rfl rfl
theorem dksX6_like_10 : cX6_like.data.toList.drop 240 = dktX6_like_10 := dk_seg dksX6_like_9 24 rfl rfl
theorem dksX6_like_11 : cX6_like.data.toList.drop 264 = dktX6_like_11 := dk_seg dksX6_like_10 24 rfl rfl
theorem dksX6_like_12 : cX6_like.data.toList.drop 288 = dktX6_like_12 := dk_seg dksX6_like_11 24 rfl rfl
theorem dksX6_like_13 : cX6_like.data.toList.drop 310 = dktX6_like_13 := dk_seg dksX6_like_12 22 rfl rfl
theorem dksX6_like_14 : cX6_like.data.toList.drop 332 = dktX6_like_14 := dk_seg dksX6_like_13 22 rfl rfl
theorem dksX6_like_15 : cX6_like.data.toList.drop 356 = dktX6_like_15 := dk_seg dksX6_like_14 24 rfl rfl
theorem dX6_like_0 : decode cX6_like 0 = .ok (.aload_n 0, 1) := dk_42 (dk_at dksX6_like_0 0 rfl rfl)
theorem dX6_like_1 : decode cX6_like 1 = .ok (.aload_n 1, 1) := dk_43 (dk_at dksX6_like_0 1 rfl rfl)
theorem dX6_like_2 : decode cX6_like 2 = .ok (.getfield 64, 3) := dk_180 0 64 (dk_at dksX6_like_0 2 rfl rfl)
theorem dX6_like_5 : decode cX6_like 5 = .ok (.putfield 64, 3) := dk_181 0 64 (dk_at dksX6_like_0 5 rfl rfl)
theorem dX6_like_8 : decode cX6_like 8 = .ok (.aload_n 0, 1) := dk_42 (dk_at dksX6_like_0 8 rfl rfl)
theorem dX6_like_9 : decode cX6_like 9 = .ok (.aload_n 1, 1) := dk_43 (dk_at dksX6_like_0 9 rfl rfl)
theorem dX6_like_10 : decode cX6_like 10 = .ok (.getfield 61, 3) := dk_180 0 61 (dk_at dksX6_like_0 10 rfl rfl)
theorem dX6_like_13 : decode cX6_like 13 = .ok (.putfield 61, 3) := dk_181 0 61 (dk_at dksX6_like_0 13 rfl rfl)
theorem dX6_like_16 : decode cX6_like 16 = .ok (.aload_n 0, 1) := dk_42 (dk_at dksX6_like_0 16 rfl rfl)
theorem dX6_like_17 : decode cX6_like 17 = .ok (.aload_n 1, 1) := dk_43 (dk_at dksX6_like_0 17 rfl rfl)
theorem dX6_like_18 : decode cX6_like 18 = .ok (.getfield 58, 3) := dk_180 0 58 (dk_at dksX6_like_0 18 rfl rfl)
theorem dX6_like_21 : decode cX6_like 21 = .ok (.putfield 58, 3) := dk_181 0 58 (dk_at dksX6_like_0 21 rfl rfl)
theorem dX6_like_24 : decode cX6_like 24 = .ok (.aload_n 0, 1) := dk_42 (dk_at dksX6_like_1 0 rfl rfl)
theorem dX6_like_25 : decode cX6_like 25 = .ok (.aload_n 1, 1) := dk_43 (dk_at dksX6_like_1 1 rfl rfl)
theorem dX6_like_26 : decode cX6_like 26 = .ok (.getfield 55, 3) := dk_180 0 55 (dk_at dksX6_like_1 2 rfl rfl)
theorem dX6_like_29 : decode cX6_like 29 = .ok (.putfield 55, 3) := dk_181 0 55 (dk_at dksX6_like_1 5 rfl rfl)
theorem dX6_like_32 : decode cX6_like 32 = .ok (.aload_n 0, 1) := dk_42 (dk_at dksX6_like_1 8 rfl rfl)
theorem dX6_like_33 : decode cX6_like 33 = .ok (.aload_n 1, 1) := dk_43 (dk_at dksX6_like_1 9 rfl rfl)
theorem dX6_like_34 : decode cX6_like 34 = .ok (.getfield 52, 3) := dk_180 0 52 (dk_at dksX6_like_1 10 rfl rfl)
theorem dX6_like_37 : decode cX6_like 37 = .ok (.putfield 52, 3) := dk_181 0 52 (dk_at dksX6_like_1 13 rfl rfl)
theorem dX6_like_40 : decode cX6_like 40 = .ok (.aload_n 0, 1) := dk_42 (dk_at dksX6_like_1 16 rfl rfl)
theorem dX6_like_41 : decode cX6_like 41 = .ok (.aload_n 1, 1) := dk_43 (dk_at dksX6_like_1 17 rfl rfl)
theorem dX6_like_42 : decode cX6_like 42 = .ok (.getfield 49, 3) := dk_180 0 49 (dk_at dksX6_like_1 18 rfl rfl)
theorem dX6_like_45 : decode cX6_like 45 = .ok (.putfield 49, 3) := dk_181 0 49 (dk_at dksX6_like_1 21 rfl rfl)
theorem dX6_like_48 : decode cX6_like 48 = .ok (.aload_n 0, 1) := dk_42 (dk_at dksX6_like_2 0 rfl rfl)
theorem dX6_like_49 : decode cX6_like 49 = .ok (.aload_n 1, 1) := dk_43 (dk_at dksX6_like_2 1 rfl rfl)
theorem dX6_like_50 : decode cX6_like 50 = .ok (.getfield 46, 3) := dk_180 0 46 (dk_at dksX6_like_2 2 rfl rfl)
theorem dX6_like_53 : decode cX6_like 53 = .ok (.putfield 46, 3) := dk_181 0 46 (dk_at dksX6_like_2 5 rfl rfl)
theorem dX6_like_56 : decode cX6_like 56 = .ok (.aload_n 0, 1) := dk_42 (dk_at dksX6_like_2 8 rfl rfl)
theorem dX6_like_57 : decode cX6_like 57 = .ok (.aload_n 1, 1) := dk_43 (dk_at dksX6_like_2 9 rfl rfl)
theorem dX6_like_58 : decode cX6_like 58 = .ok (.getfield 42, 3) := dk_180 0 42 (dk_at dksX6_like_2 10 rfl rfl)
theorem dX6_like_61 : decode cX6_like 61 = .ok (.putfield 42, 3) := dk_181 0 42 (dk_at dksX6_like_2 13 rfl rfl)
theorem dX6_like_64 : decode cX6_like 64 = .ok (.aload_n 0, 1) := dk_42 (dk_at dksX6_like_2 16 rfl rfl)
theorem dX6_like_65 : decode cX6_like 65 = .ok (.aload_n 1, 1) := dk_43 (dk_at dksX6_like_2 17 rfl rfl)
theorem dX6_like_66 : decode cX6_like 66 = .ok (.getfield 67, 3) := dk_180 0 67 (dk_at dksX6_like_2 18 rfl rfl)
theorem dX6_like_69 : decode cX6_like 69 = .ok (.putfield 67, 3) := dk_181 0 67 (dk_at dksX6_like_2 21 rfl rfl)
theorem dX6_like_72 : decode cX6_like 72 = .ok (.aload_n 0, 1) := dk_42 (dk_at dksX6_like_3 0 rfl rfl)
theorem dX6_like_73 : decode cX6_like 73 = .ok (.aload_n 1, 1) := dk_43 (dk_at dksX6_like_3 1 rfl rfl)
theorem dX6_like_74 : decode cX6_like 74 = .ok (.getfield 130, 3) := dk_180 0 130 (dk_at dksX6_like_3 2 rfl rfl)
theorem dX6_like_77 : decode cX6_like 77 = .ok (.putfield 130, 3) := dk_181 0 130 (dk_at dksX6_like_3 5 rfl rfl)
theorem dX6_like_80 : decode cX6_like 80 = .ok (.aload_n 0, 1) := dk_42 (dk_at dksX6_like_3 8 rfl rfl)
theorem dX6_like_81 : decode cX6_like 81 = .ok (.aload_n 1, 1) := dk_43 (dk_at dksX6_like_3 9 rfl rfl)
theorem dX6_like_82 : decode cX6_like 82 = .ok (.getfield 127, 3) := dk_180 0 127 (dk_at dksX6_like_3 10 rfl rfl)
theorem dX6_like_85 : decode cX6_like 85 = .ok (.putfield 127, 3) := dk_181 0 127 (dk_at dksX6_like_3 13 rfl rfl)
theorem dX6_like_88 : decode cX6_like 88 = .ok (.aload_n 0, 1) := dk_42 (dk_at dksX6_like_3 16 rfl rfl)
theorem dX6_like_89 : decode cX6_like 89 = .ok (.aload_n 1, 1) := dk_43 (dk_at dksX6_like_3 17 rfl rfl)
theorem dX6_like_90 : decode cX6_like 90 = .ok (.getfield 124, 3) := dk_180 0 124 (dk_at dksX6_like_3 18 rfl rfl)
theorem dX6_like_93 : decode cX6_like 93 = .ok (.putfield 124, 3) := dk_181 0 124 (dk_at dksX6_like_3 21 rfl rfl)
theorem dX6_like_96 : decode cX6_like 96 = .ok (.aload_n 0, 1) := dk_42 (dk_at dksX6_like_4 0 rfl rfl)
theorem dX6_like_97 : decode cX6_like 97 = .ok (.aload_n 1, 1) := dk_43 (dk_at dksX6_like_4 1 rfl rfl)
theorem dX6_like_98 : decode cX6_like 98 = .ok (.getfield 121, 3) := dk_180 0 121 (dk_at dksX6_like_4 2 rfl rfl)
theorem dX6_like_101 : decode cX6_like 101 = .ok (.putfield 121, 3) := dk_181 0 121 (dk_at dksX6_like_4 5 rfl rfl)
theorem dX6_like_104 : decode cX6_like 104 = .ok (.aload_n 0, 1) := dk_42 (dk_at dksX6_like_4 8 rfl rfl)
theorem dX6_like_105 : decode cX6_like 105 = .ok (.aload_n 1, 1) := dk_43 (dk_at dksX6_like_4 9 rfl rfl)
theorem dX6_like_106 : decode cX6_like 106 = .ok (.getfield 118, 3) := dk_180 0 118 (dk_at dksX6_like_4 10 rfl rfl)
theorem dX6_like_109 : decode cX6_like 109 = .ok (.putfield 118, 3) := dk_181 0 118 (dk_at dksX6_like_4 13 rfl rfl)
theorem dX6_like_112 : decode cX6_like 112 = .ok (.aload_n 0, 1) := dk_42 (dk_at dksX6_like_4 16 rfl rfl)
theorem dX6_like_113 : decode cX6_like 113 = .ok (.aload_n 1, 1) := dk_43 (dk_at dksX6_like_4 17 rfl rfl)
theorem dX6_like_114 : decode cX6_like 114 = .ok (.getfield 115, 3) := dk_180 0 115 (dk_at dksX6_like_4 18 rfl rfl)
theorem dX6_like_117 : decode cX6_like 117 = .ok (.putfield 115, 3) := dk_181 0 115 (dk_at dksX6_like_4 21 rfl rfl)
theorem dX6_like_120 : decode cX6_like 120 = .ok (.aload_n 0, 1) := dk_42 (dk_at dksX6_like_5 0 rfl rfl)
theorem dX6_like_121 : decode cX6_like 121 = .ok (.aload_n 1, 1) := dk_43 (dk_at dksX6_like_5 1 rfl rfl)
theorem dX6_like_122 : decode cX6_like 122 = .ok (.getfield 112, 3) := dk_180 0 112 (dk_at dksX6_like_5 2 rfl rfl)
theorem dX6_like_125 : decode cX6_like 125 = .ok (.putfield 112, 3) := dk_181 0 112 (dk_at dksX6_like_5 5 rfl rfl)
theorem dX6_like_128 : decode cX6_like 128 = .ok (.aload_n 0, 1) := dk_42 (dk_at dksX6_like_5 8 rfl rfl)
theorem dX6_like_129 : decode cX6_like 129 = .ok (.aload_n 1, 1) := dk_43 (dk_at dksX6_like_5 9 rfl rfl)
theorem dX6_like_130 : decode cX6_like 130 = .ok (.getfield 109, 3) := dk_180 0 109 (dk_at dksX6_like_5 10 rfl rfl)
theorem dX6_like_133 : decode cX6_like 133 = .ok (.putfield 109, 3) := dk_181 0 109 (dk_at dksX6_like_5 13 rfl rfl)
theorem dX6_like_136 : decode cX6_like 136 = .ok (.aload_n 0, 1) := dk_42 (dk_at dksX6_like_5 16 rfl rfl)
theorem dX6_like_137 : decode cX6_like 137 = .ok (.aload_n 1, 1) := dk_43 (dk_at dksX6_like_5 17 rfl rfl)
theorem dX6_like_138 : decode cX6_like 138 = .ok (.getfield 106, 3) := dk_180 0 106 (dk_at dksX6_like_5 18 rfl rfl)
theorem dX6_like_141 : decode cX6_like 141 = .ok (.putfield 106, 3) := dk_181 0 106 (dk_at dksX6_like_5 21 rfl rfl)
theorem dX6_like_144 : decode cX6_like 144 = .ok (.aload_n 0, 1) := dk_42 (dk_at dksX6_like_6 0 rfl rfl)
theorem dX6_like_145 : decode cX6_like 145 = .ok (.aload_n 1, 1) := dk_43 (dk_at dksX6_like_6 1 rfl rfl)
theorem dX6_like_146 : decode cX6_like 146 = .ok (.getfield 103, 3) := dk_180 0 103 (dk_at dksX6_like_6 2 rfl rfl)
theorem dX6_like_149 : decode cX6_like 149 = .ok (.putfield 103, 3) := dk_181 0 103 (dk_at dksX6_like_6 5 rfl rfl)
theorem dX6_like_152 : decode cX6_like 152 = .ok (.aload_n 0, 1) := dk_42 (dk_at dksX6_like_6 8 rfl rfl)
theorem dX6_like_153 : decode cX6_like 153 = .ok (.aload_n 1, 1) := dk_43 (dk_at dksX6_like_6 9 rfl rfl)
theorem dX6_like_154 : decode cX6_like 154 = .ok (.getfield 100, 3) := dk_180 0 100 (dk_at dksX6_like_6 10 rfl rfl)
theorem dX6_like_157 : decode cX6_like 157 = .ok (.putfield 100, 3) := dk_181 0 100 (dk_at dksX6_like_6 13 rfl rfl)
theorem dX6_like_160 : decode cX6_like 160 = .ok (.aload_n 0, 1) := dk_42 (dk_at dksX6_like_6 16 rfl rfl)
theorem dX6_like_161 : decode cX6_like 161 = .ok (.aload_n 1, 1) := dk_43 (dk_at dksX6_like_6 17 rfl rfl)
theorem dX6_like_162 : decode cX6_like 162 = .ok (.getfield 97, 3) := dk_180 0 97 (dk_at dksX6_like_6 18 rfl rfl)
theorem dX6_like_165 : decode cX6_like 165 = .ok (.putfield 97, 3) := dk_181 0 97 (dk_at dksX6_like_6 21 rfl rfl)
theorem dX6_like_168 : decode cX6_like 168 = .ok (.aload_n 0, 1) := dk_42 (dk_at dksX6_like_7 0 rfl rfl)
theorem dX6_like_169 : decode cX6_like 169 = .ok (.aload_n 1, 1) := dk_43 (dk_at dksX6_like_7 1 rfl rfl)
theorem dX6_like_170 : decode cX6_like 170 = .ok (.getfield 94, 3) := dk_180 0 94 (dk_at dksX6_like_7 2 rfl rfl)
theorem dX6_like_173 : decode cX6_like 173 = .ok (.putfield 94, 3) := dk_181 0 94 (dk_at dksX6_like_7 5 rfl rfl)
theorem dX6_like_176 : decode cX6_like 176 = .ok (.aload_n 0, 1) := dk_42 (dk_at dksX6_like_7 8 rfl rfl)
theorem dX6_like_177 : decode cX6_like 177 = .ok (.aload_n 1, 1) := dk_43 (dk_at dksX6_like_7 9 rfl rfl)
theorem dX6_like_178 : decode cX6_like 178 = .ok (.getfield 91, 3) := dk_180 0 91 (dk_at dksX6_like_7 10 rfl rfl)
theorem dX6_like_181 : decode cX6_like 181 = .ok (.putfield 91, 3) := dk_181 0 91 (dk_at dksX6_like_7 13 rfl rfl)
theorem dX6_like_184 : decode cX6_like 184 = .ok (.aload_n 0, 1) := dk_42 (dk_at dksX6_like_7 16 rfl rfl)
theorem dX6_like_185 : decode cX6_like 185 = .ok (.aload_n 1, 1) := dk_43 (dk_at dksX6_like_7 17 rfl rfl)
theorem dX6_like_186 : decode cX6_like 186 = .ok (.getfield 88, 3) := dk_180 0 88 (dk_at dksX6_like_7 18 rfl rfl)
theorem dX6_like_189 : decode cX6_like 189 = .ok (.putfield 88, 3) := dk_181 0 88 (dk_at dksX6_like_7 21 rfl rfl)
theorem dX6_like_192 : decode cX6_like 192 = .ok (.aload_n 0, 1) := dk_42 (dk_at dksX6_like_8 0 rfl rfl)
theorem dX6_like_193 : decode cX6_like 193 = .ok (.aload_n 1, 1) := dk_43 (dk_at dksX6_like_8 1 rfl rfl)
theorem dX6_like_194 : decode cX6_like 194 = .ok (.getfield 85, 3) := dk_180 0 85 (dk_at dksX6_like_8 2 rfl rfl)
theorem dX6_like_197 : decode cX6_like 197 = .ok (.putfield 85, 3) := dk_181 0 85 (dk_at dksX6_like_8 5 rfl rfl)
theorem dX6_like_200 : decode cX6_like 200 = .ok (.aload_n 0, 1) := dk_42 (dk_at dksX6_like_8 8 rfl rfl)
theorem dX6_like_201 : decode cX6_like 201 = .ok (.aload_n 1, 1) := dk_43 (dk_at dksX6_like_8 9 rfl rfl)
theorem dX6_like_202 : decode cX6_like 202 = .ok (.getfield 82, 3) := dk_180 0 82 (dk_at dksX6_like_8 10 rfl rfl)
theorem dX6_like_205 : decode cX6_like 205 = .ok (.putfield 82, 3) := dk_181 0 82 (dk_at dksX6_like_8 13 rfl rfl)
theorem dX6_like_208 : decode cX6_like 208 = .ok (.aload_n 0, 1) := dk_42 (dk_at dksX6_like_8 16 rfl rfl)
theorem dX6_like_209 : decode cX6_like 209 = .ok (.aload_n 1, 1) := dk_43 (dk_at dksX6_like_8 17 rfl rfl)
theorem dX6_like_210 : decode cX6_like 210 = .ok (.getfield 79, 3) := dk_180 0 79 (dk_at dksX6_like_8 18 rfl rfl)
theorem dX6_like_213 : decode cX6_like 213 = .ok (.putfield 79, 3) := dk_181 0 79 (dk_at dksX6_like_8 21 rfl rfl)
theorem dX6_like_216 : decode cX6_like 216 = .ok (.aload_n 0, 1) := dk_42 (dk_at dksX6_like_9 0 rfl rfl)
theorem dX6_like_217 : decode cX6_like 217 = .ok (.aload_n 1, 1) := dk_43 (dk_at dksX6_like_9 1 rfl rfl)
theorem dX6_like_218 : decode cX6_like 218 = .ok (.getfield 76, 3) := dk_180 0 76 (dk_at dksX6_like_9 2 rfl rfl)
theorem dX6_like_221 : decode cX6_like 221 = .ok (.putfield 76, 3) := dk_181 0 76 (dk_at dksX6_like_9 5 rfl rfl)
theorem dX6_like_224 : decode cX6_like 224 = .ok (.aload_n 0, 1) := dk_42 (dk_at dksX6_like_9 8 rfl rfl)
theorem dX6_like_225 : decode cX6_like 225 = .ok (.aload_n 1, 1) := dk_43 (dk_at dksX6_like_9 9 rfl rfl)
theorem dX6_like_226 : decode cX6_like 226 = .ok (.getfield 138, 3) := dk_180 0 138 (dk_at dksX6_like_9 10 rfl rfl)
theorem dX6_like_229 : decode cX6_like 229 = .ok (.putfield 138, 3) := dk_181 0 138 (dk_at dksX6_like_9 13 rfl rfl)
theorem dX6_like_232 : decode cX6_like 232 = .ok (.aload_n 0, 1) := dk_42 (dk_at dksX6_like_9 16 rfl rfl)
theorem dX6_like_233 : decode cX6_like 233 = .ok (.aload_n 1, 1) := dk_43 (dk_at dksX6_like_9 17 rfl rfl)
theorem dX6_like_234 : decode cX6_like 234 = .ok (.getfield 73, 3) := dk_180 0 73 (dk_at dksX6_like_9 18 rfl rfl)
theorem dX6_like_237 : decode cX6_like 237 = .ok (.putfield 73, 3) := dk_181 0 73 (dk_at dksX6_like_9 21 rfl rfl)
theorem dX6_like_240 : decode cX6_like 240 = .ok (.aload_n 0, 1) := dk_42 (dk_at dksX6_like_10 0 rfl rfl)
theorem dX6_like_241 : decode cX6_like 241 = .ok (.aload_n 1, 1) := dk_43 (dk_at dksX6_like_10 1 rfl rfl)
theorem dX6_like_242 : decode cX6_like 242 = .ok (.getfield 142, 3) := dk_180 0 142 (dk_at dksX6_like_10 2 rfl rfl)
theorem dX6_like_245 : decode cX6_like 245 = .ok (.putfield 142, 3) := dk_181 0 142 (dk_at dksX6_like_10 5 rfl rfl)
theorem dX6_like_248 : decode cX6_like 248 = .ok (.aload_n 0, 1) := dk_42 (dk_at dksX6_like_10 8 rfl rfl)
theorem dX6_like_249 : decode cX6_like 249 = .ok (.aload_n 1, 1) := dk_43 (dk_at dksX6_like_10 9 rfl rfl)
theorem dX6_like_250 : decode cX6_like 250 = .ok (.getfield 146, 3) := dk_180 0 146 (dk_at dksX6_like_10 10 rfl rfl)
theorem dX6_like_253 : decode cX6_like 253 = .ok (.putfield 146, 3) := dk_181 0 146 (dk_at dksX6_like_10 13 rfl rfl)
theorem dX6_like_256 : decode cX6_like 256 = .ok (.aload_n 0, 1) := dk_42 (dk_at dksX6_like_10 16 rfl rfl)
theorem dX6_like_257 : decode cX6_like 257 = .ok (.aload_n 1, 1) := dk_43 (dk_at dksX6_like_10 17 rfl rfl)
theorem dX6_like_258 : decode cX6_like 258 = .ok (.getfield 150, 3) := dk_180 0 150 (dk_at dksX6_like_10 18 rfl rfl)
theorem dX6_like_261 : decode cX6_like 261 = .ok (.putfield 150, 3) := dk_181 0 150 (dk_at dksX6_like_10 21 rfl rfl)
theorem dX6_like_264 : decode cX6_like 264 = .ok (.aload_n 0, 1) := dk_42 (dk_at dksX6_like_11 0 rfl rfl)
theorem dX6_like_265 : decode cX6_like 265 = .ok (.aload_n 1, 1) := dk_43 (dk_at dksX6_like_11 1 rfl rfl)
theorem dX6_like_266 : decode cX6_like 266 = .ok (.getfield 70, 3) := dk_180 0 70 (dk_at dksX6_like_11 2 rfl rfl)
theorem dX6_like_269 : decode cX6_like 269 = .ok (.putfield 70, 3) := dk_181 0 70 (dk_at dksX6_like_11 5 rfl rfl)
theorem dX6_like_272 : decode cX6_like 272 = .ok (.aload_n 1, 1) := dk_43 (dk_at dksX6_like_11 8 rfl rfl)
theorem dX6_like_273 : decode cX6_like 273 = .ok (.getfield 9, 3) := dk_180 0 9 (dk_at dksX6_like_11 9 rfl rfl)
theorem dX6_like_276 : decode cX6_like 276 = .ok (.aload_n 0, 1) := dk_42 (dk_at dksX6_like_11 12 rfl rfl)
theorem dX6_like_277 : decode cX6_like 277 = .ok (.getfield 9, 3) := dk_180 0 9 (dk_at dksX6_like_11 13 rfl rfl)
theorem dX6_like_280 : decode cX6_like 280 = .ok (.invokestatic 160, 3) := dk_184 0 160 (dk_at dksX6_like_11 16 rfl rfl)
theorem dX6_like_283 : decode cX6_like 283 = .ok (.aload_n 1, 1) := dk_43 (dk_at dksX6_like_11 19 rfl rfl)
theorem dX6_like_284 : decode cX6_like 284 = .ok (.getfield 15, 3) := dk_180 0 15 (dk_at dksX6_like_11 20 rfl rfl)
theorem dX6_like_287 : decode cX6_like 287 = .ok (.aload_n 0, 1) := dk_42 (dk_at dksX6_like_11 23 rfl rfl)
theorem dX6_like_288 : decode cX6_like 288 = .ok (.getfield 15, 3) := dk_180 0 15 (dk_at dksX6_like_12 0 rfl rfl)
theorem dX6_like_291 : decode cX6_like 291 = .ok (.invokestatic 160, 3) := dk_184 0 160 (dk_at dksX6_like_12 3 rfl rfl)
theorem dX6_like_294 : decode cX6_like 294 = .ok (.aload_n 1, 1) := dk_43 (dk_at dksX6_like_12 6 rfl rfl)
theorem dX6_like_295 : decode cX6_like 295 = .ok (.getfield 18, 3) := dk_180 0 18 (dk_at dksX6_like_12 7 rfl rfl)
theorem dX6_like_298 : decode cX6_like 298 = .ok (.aload_n 0, 1) := dk_42 (dk_at dksX6_like_12 10 rfl rfl)
theorem dX6_like_299 : decode cX6_like 299 = .ok (.getfield 18, 3) := dk_180 0 18 (dk_at dksX6_like_12 11 rfl rfl)
theorem dX6_like_302 : decode cX6_like 302 = .ok (.invokestatic 160, 3) := dk_184 0 160 (dk_at dksX6_like_12 14 rfl rfl)
theorem dX6_like_305 : decode cX6_like 305 = .ok (.aload_n 1, 1) := dk_43 (dk_at dksX6_like_12 17 rfl rfl)
theorem dX6_like_306 : decode cX6_like 306 = .ok (.getfield 21, 3) := dk_180 0 21 (dk_at dksX6_like_12 18 rfl rfl)
theorem dX6_like_309 : decode cX6_like 309 = .ok (.aload_n 0, 1) := dk_42 (dk_at dksX6_like_12 21 rfl rfl)
theorem dX6_like_310 : decode cX6_like 310 = .ok (.getfield 21, 3) := dk_180 0 21 (dk_at dksX6_like_13 0 rfl rfl)
theorem dX6_like_313 : decode cX6_like 313 = .ok (.invokestatic 160, 3) := dk_184 0 160 (dk_at dksX6_like_13 3 rfl rfl)
theorem dX6_like_316 : decode cX6_like 316 = .ok (.aload_n 1, 1) := dk_43 (dk_at dksX6_like_13 6 rfl rfl)
theorem dX6_like_317 : decode cX6_like 317 = .ok (.getfield 24, 3) := dk_180 0 24 (dk_at dksX6_like_13 7 rfl rfl)
theorem dX6_like_320 : decode cX6_like 320 = .ok (.aload_n 0, 1) := dk_42 (dk_at dksX6_like_13 10 rfl rfl)
theorem dX6_like_321 : decode cX6_like 321 = .ok (.getfield 24, 3) := dk_180 0 24 (dk_at dksX6_like_13 11 rfl rfl)
theorem dX6_like_324 : decode cX6_like 324 = .ok (.invokestatic 160, 3) := dk_184 0 160 (dk_at dksX6_like_13 14 rfl rfl)
theorem dX6_like_327 : decode cX6_like 327 = .ok (.aload_n 1, 1) := dk_43 (dk_at dksX6_like_13 17 rfl rfl)
theorem dX6_like_328 : decode cX6_like 328 = .ok (.getfield 27, 3) := dk_180 0 27 (dk_at dksX6_like_13 18 rfl rfl)
theorem dX6_like_331 : decode cX6_like 331 = .ok (.aload_n 0, 1) := dk_42 (dk_at dksX6_like_13 21 rfl rfl)
theorem dX6_like_332 : decode cX6_like 332 = .ok (.getfield 27, 3) := dk_180 0 27 (dk_at dksX6_like_14 0 rfl rfl)
theorem dX6_like_335 : decode cX6_like 335 = .ok (.invokestatic 160, 3) := dk_184 0 160 (dk_at dksX6_like_14 3 rfl rfl)
theorem dX6_like_338 : decode cX6_like 338 = .ok (.aload_n 1, 1) := dk_43 (dk_at dksX6_like_14 6 rfl rfl)
theorem dX6_like_339 : decode cX6_like 339 = .ok (.getfield 30, 3) := dk_180 0 30 (dk_at dksX6_like_14 7 rfl rfl)
theorem dX6_like_342 : decode cX6_like 342 = .ok (.aload_n 0, 1) := dk_42 (dk_at dksX6_like_14 10 rfl rfl)
theorem dX6_like_343 : decode cX6_like 343 = .ok (.getfield 30, 3) := dk_180 0 30 (dk_at dksX6_like_14 11 rfl rfl)
theorem dX6_like_346 : decode cX6_like 346 = .ok (.invokestatic 160, 3) := dk_184 0 160 (dk_at dksX6_like_14 14 rfl rfl)
theorem dX6_like_349 : decode cX6_like 349 = .ok (.aload_n 0, 1) := dk_42 (dk_at dksX6_like_14 17 rfl rfl)
theorem dX6_like_350 : decode cX6_like 350 = .ok (.getfield 38, 3) := dk_180 0 38 (dk_at dksX6_like_14 18 rfl rfl)
theorem dX6_like_353 : decode cX6_like 353 = .ok (.invokevirtual 164, 3) := dk_182 0 164 (dk_at dksX6_like_14 21 rfl rfl)
theorem dX6_like_356 : decode cX6_like 356 = .ok (.aload_n 0, 1) := dk_42 (dk_at dksX6_like_15 0 rfl rfl)
theorem dX6_like_357 : decode cX6_like 357 = .ok (.getfield 38, 3) := dk_180 0 38 (dk_at dksX6_like_15 1 rfl rfl)
theorem dX6_like_360 : decode cX6_like 360 = .ok (.aload_n 1, 1) := dk_43 (dk_at dksX6_like_15 4 rfl rfl)
theorem dX6_like_361 : decode cX6_like 361 = .ok (.getfield 38, 3) := dk_180 0 38 (dk_at dksX6_like_15 5 rfl rfl)
theorem dX6_like_364 : decode cX6_like 364 = .ok (.invokevirtual 167, 3) := dk_182 0 167 (dk_at dksX6_like_15 8 rfl rfl)
theorem dX6_like_367 : decode cX6_like 367 = .ok (.aload_n 0, 1) := dk_42 (dk_at dksX6_like_15 11 rfl rfl)
theorem dX6_like_368 : decode cX6_like 368 = .ok (.iconst 0, 1) := dk_3 (dk_at dksX6_like_15 12 rfl rfl)
theorem dX6_like_369 : decode cX6_like 369 = .ok (.putfield 171, 3) := dk_181 0 171 (dk_at dksX6_like_15 13 rfl rfl)
theorem dX6_like_372 : decode cX6_like 372 = .ok (.return_, 1) := dk_177 (dk_at dksX6_like_15 16 rfl rfl)
abbrev cX6_copies : ByteArray := prog_16_method_4_code
def yX6_copies : MethodName := ⟨RX6, "copies", "([I[I)V"⟩
def dkwX6_copies_0 : List UInt8 := [42, 3, 43, 3, 43, 190, 184, 0, 154, 177]
abbrev dktX6_copies_0 : List UInt8 := dkwX6_copies_0 ++ []
theorem dksX6_copies_0 : cX6_copies.data.toList.drop 0 = dktX6_copies_0 := by decide +kernel
theorem dX6_copies_0 : decode cX6_copies 0 = .ok (.aload_n 0, 1) := dk_42 (dk_at dksX6_copies_0 0 rfl rfl)
theorem dX6_copies_1 : decode cX6_copies 1 = .ok (.iconst 0, 1) := dk_3 (dk_at dksX6_copies_0 1 rfl rfl)
theorem dX6_copies_2 : decode cX6_copies 2 = .ok (.aload_n 1, 1) := dk_43 (dk_at dksX6_copies_0 2 rfl rfl)
theorem dX6_copies_3 : decode cX6_copies 3 = .ok (.iconst 0, 1) := dk_3 (dk_at dksX6_copies_0 3 rfl rfl)
theorem dX6_copies_4 : decode cX6_copies 4 = .ok (.aload_n 1, 1) := dk_43 (dk_at dksX6_copies_0 4 rfl rfl)
theorem dX6_copies_5 : decode cX6_copies 5 = .ok (.arraylength, 1) := dk_190 (dk_at dksX6_copies_0 5 rfl rfl)
theorem dX6_copies_6 : decode cX6_copies 6 = .ok (.invokestatic 154, 3) := dk_184 0 154 (dk_at dksX6_copies_0 6 rfl rfl)
theorem dX6_copies_9 : decode cX6_copies 9 = .ok (.return_, 1) := dk_177 (dk_at dksX6_copies_0 9 rfl rfl)
abbrev cX6_goes : ByteArray := prog_16_method_16_code
def yX6_goes : MethodName := ⟨RX6, "goes", "(LCircuitCells$Line;LCircuitCells$Fill;)V"⟩
def dkwX6_goes_10 : List UInt8 := [180, 0, 64, 4, 96, 181, 0, 64, 177]
abbrev dktX6_goes_10 : List UInt8 := dkwX6_goes_10 ++ []
def dkwX6_goes_9 : List UInt8 := [43, 44, 182, 1, 35, 42, 89, 180, 0, 127, 17, 3, 232, 100, 181, 0, 127, 167, 255, 220, 42, 89]
abbrev dktX6_goes_9 : List UInt8 := dkwX6_goes_9 ++ dktX6_goes_10
def dkwX6_goes_8 : List UInt8 := [96, 96, 181, 0, 127, 42, 180, 0, 127, 17, 3, 232, 161, 0, 32, 42, 180, 0, 67, 5, 160, 0, 24, 42]
abbrev dktX6_goes_8 : List UInt8 := dkwX6_goes_8 ++ dktX6_goes_9
def dkwX6_goes_7 : List UInt8 := [180, 0, 138, 42, 180, 0, 121, 100, 96, 181, 0, 118, 42, 89, 180, 0, 127, 17, 3, 232, 42, 180, 0, 121]
abbrev dktX6_goes_7 : List UInt8 := dkwX6_goes_7 ++ dktX6_goes_8
def dkwX6_goes_6 : List UInt8 := [154, 0, 8, 42, 29, 182, 1, 32, 42, 180, 0, 67, 5, 160, 0, 77, 42, 89, 180, 0, 118, 42]
abbrev dktX6_goes_6 : List UInt8 := dkwX6_goes_6 ++ dktX6_goes_7
def dkwX6_goes_5 : List UInt8 := [90, 181, 0, 124, 181, 0, 127, 42, 180, 0, 67, 5, 160, 0, 20, 42, 180, 0, 64, 43, 180, 1, 29, 112]
abbrev dktX6_goes_5 : List UInt8 := dkwX6_goes_5 ++ dktX6_goes_6
def dkwX6_goes_4 : List UInt8 := [180, 0, 142, 161, 0, 28, 42, 5, 181, 0, 67, 42, 42, 42, 42, 3, 90, 181, 0, 118, 90, 181, 0, 121]
abbrev dktX6_goes_4 : List UInt8 := dkwX6_goes_4 ++ dktX6_goes_5
def dkwX6_goes_3 : List UInt8 := [167, 255, 207, 42, 43, 182, 1, 23, 42, 43, 182, 1, 26, 62, 42, 180, 0, 67, 4, 160, 0, 36, 29, 42]
abbrev dktX6_goes_3 : List UInt8 := dkwX6_goes_3 ++ dktX6_goes_4
def dkwX6_goes_2 : List UInt8 := [180, 0, 253, 112, 154, 0, 8, 42, 43, 182, 1, 19, 42, 89, 180, 0, 130, 17, 3, 232, 100, 181, 0, 130]
abbrev dktX6_goes_2 : List UInt8 := dkwX6_goes_2 ++ dktX6_goes_3
def dkwX6_goes_1 : List UInt8 := [180, 0, 130, 17, 3, 232, 161, 0, 45, 42, 89, 180, 0, 61, 4, 96, 181, 0, 61, 42, 180, 0, 61, 43]
abbrev dktX6_goes_1 : List UInt8 := dkwX6_goes_1 ++ dktX6_goes_2
def dkwX6_goes_0 : List UInt8 := [42, 3, 181, 1, 0, 42, 89, 180, 0, 130, 17, 3, 232, 42, 180, 0, 138, 96, 96, 181, 0, 130, 42]
abbrev dktX6_goes_0 : List UInt8 := dkwX6_goes_0 ++ dktX6_goes_1
theorem dksX6_goes_0 : cX6_goes.data.toList.drop 0 = dktX6_goes_0 := by decide +kernel
theorem dksX6_goes_1 : cX6_goes.data.toList.drop 23 = dktX6_goes_1 := dk_seg dksX6_goes_0 23 rfl rfl
theorem dksX6_goes_2 : cX6_goes.data.toList.drop 47 = dktX6_goes_2 := dk_seg dksX6_goes_1 24 rfl rfl
theorem dksX6_goes_3 : cX6_goes.data.toList.drop 71 = dktX6_goes_3 := dk_seg dksX6_goes_2 24 rfl rfl
theorem dksX6_goes_4 : cX6_goes.data.toList.drop 95 = dktX6_goes_4 := dk_seg dksX6_goes_3 24 rfl rfl
theorem dksX6_goes_5 : cX6_goes.data.toList.drop 119 = dktX6_goes_5 := dk_seg dksX6_goes_4 24 rfl rfl
theorem dksX6_goes_6 : cX6_goes.data.toList.drop 143 = dktX6_goes_6 := dk_seg dksX6_goes_5 24 rfl rfl
theorem dksX6_goes_7 : cX6_goes.data.toList.drop 165 = dktX6_goes_7 := dk_seg dksX6_goes_6 22 rfl rfl
theorem dksX6_goes_8 : cX6_goes.data.toList.drop 189 = dktX6_goes_8 := dk_seg dksX6_goes_7 24 rfl rfl
theorem dksX6_goes_9 : cX6_goes.data.toList.drop 213 = dktX6_goes_9 := dk_seg dksX6_goes_8 24 rfl rfl
theorem dksX6_goes_10 : cX6_goes.data.toList.drop 235 = dktX6_goes_10 := dk_seg dksX6_goes_9 22 rfl rfl
theorem dX6_goes_0 : decode cX6_goes 0 = .ok (.aload_n 0, 1) := dk_42 (dk_at dksX6_goes_0 0 rfl rfl)
theorem dX6_goes_1 : decode cX6_goes 1 = .ok (.iconst 0, 1) := dk_3 (dk_at dksX6_goes_0 1 rfl rfl)
theorem dX6_goes_2 : decode cX6_goes 2 = .ok (.putfield 256, 3) := dk_181 1 0 (dk_at dksX6_goes_0 2 rfl rfl)
theorem dX6_goes_5 : decode cX6_goes 5 = .ok (.aload_n 0, 1) := dk_42 (dk_at dksX6_goes_0 5 rfl rfl)
theorem dX6_goes_6 : decode cX6_goes 6 = .ok (.dup, 1) := dk_89 (dk_at dksX6_goes_0 6 rfl rfl)
theorem dX6_goes_7 : decode cX6_goes 7 = .ok (.getfield 130, 3) := dk_180 0 130 (dk_at dksX6_goes_0 7 rfl rfl)
theorem dX6_goes_10 : decode cX6_goes 10 = .ok (.sipush 1000, 3) := dk_17 3 232 (dk_at dksX6_goes_0 10 rfl rfl)
theorem dX6_goes_13 : decode cX6_goes 13 = .ok (.aload_n 0, 1) := dk_42 (dk_at dksX6_goes_0 13 rfl rfl)
theorem dX6_goes_14 : decode cX6_goes 14 = .ok (.getfield 138, 3) := dk_180 0 138 (dk_at dksX6_goes_0 14 rfl rfl)
theorem dX6_goes_17 : decode cX6_goes 17 = .ok (.iadd, 1) := dk_96 (dk_at dksX6_goes_0 17 rfl rfl)
theorem dX6_goes_18 : decode cX6_goes 18 = .ok (.iadd, 1) := dk_96 (dk_at dksX6_goes_0 18 rfl rfl)
theorem dX6_goes_19 : decode cX6_goes 19 = .ok (.putfield 130, 3) := dk_181 0 130 (dk_at dksX6_goes_0 19 rfl rfl)
theorem dX6_goes_22 : decode cX6_goes 22 = .ok (.aload_n 0, 1) := dk_42 (dk_at dksX6_goes_0 22 rfl rfl)
theorem dX6_goes_23 : decode cX6_goes 23 = .ok (.getfield 130, 3) := dk_180 0 130 (dk_at dksX6_goes_1 0 rfl rfl)
theorem dX6_goes_26 : decode cX6_goes 26 = .ok (.sipush 1000, 3) := dk_17 3 232 (dk_at dksX6_goes_1 3 rfl rfl)
theorem dX6_goes_29 : decode cX6_goes 29 = .ok (.if_icmp .lt 45, 3) := dk_161 0 45 (dk_at dksX6_goes_1 6 rfl rfl)
theorem dX6_goes_32 : decode cX6_goes 32 = .ok (.aload_n 0, 1) := dk_42 (dk_at dksX6_goes_1 9 rfl rfl)
theorem dX6_goes_33 : decode cX6_goes 33 = .ok (.dup, 1) := dk_89 (dk_at dksX6_goes_1 10 rfl rfl)
theorem dX6_goes_34 : decode cX6_goes 34 = .ok (.getfield 61, 3) := dk_180 0 61 (dk_at dksX6_goes_1 11 rfl rfl)
theorem dX6_goes_37 : decode cX6_goes 37 = .ok (.iconst 1, 1) := dk_4 (dk_at dksX6_goes_1 14 rfl rfl)
theorem dX6_goes_38 : decode cX6_goes 38 = .ok (.iadd, 1) := dk_96 (dk_at dksX6_goes_1 15 rfl rfl)
theorem dX6_goes_39 : decode cX6_goes 39 = .ok (.putfield 61, 3) := dk_181 0 61 (dk_at dksX6_goes_1 16 rfl rfl)
theorem dX6_goes_42 : decode cX6_goes 42 = .ok (.aload_n 0, 1) := dk_42 (dk_at dksX6_goes_1 19 rfl rfl)
theorem dX6_goes_43 : decode cX6_goes 43 = .ok (.getfield 61, 3) := dk_180 0 61 (dk_at dksX6_goes_1 20 rfl rfl)
theorem dX6_goes_46 : decode cX6_goes 46 = .ok (.aload_n 1, 1) := dk_43 (dk_at dksX6_goes_1 23 rfl rfl)
theorem dX6_goes_47 : decode cX6_goes 47 = .ok (.getfield 253, 3) := dk_180 0 253 (dk_at dksX6_goes_2 0 rfl rfl)
theorem dX6_goes_50 : decode cX6_goes 50 = .ok (.irem, 1) := dk_112 (dk_at dksX6_goes_2 3 rfl rfl)
theorem dX6_goes_51 : decode cX6_goes 51 = .ok (.ifCond .ne 8, 3) := dk_154 0 8 (dk_at dksX6_goes_2 4 rfl rfl)
theorem dX6_goes_54 : decode cX6_goes 54 = .ok (.aload_n 0, 1) := dk_42 (dk_at dksX6_goes_2 7 rfl rfl)
theorem dX6_goes_55 : decode cX6_goes 55 = .ok (.aload_n 1, 1) := dk_43 (dk_at dksX6_goes_2 8 rfl rfl)
theorem dX6_goes_56 : decode cX6_goes 56 = .ok (.invokevirtual 275, 3) := dk_182 1 19 (dk_at dksX6_goes_2 9 rfl rfl)
theorem dX6_goes_59 : decode cX6_goes 59 = .ok (.aload_n 0, 1) := dk_42 (dk_at dksX6_goes_2 12 rfl rfl)
theorem dX6_goes_60 : decode cX6_goes 60 = .ok (.dup, 1) := dk_89 (dk_at dksX6_goes_2 13 rfl rfl)
theorem dX6_goes_61 : decode cX6_goes 61 = .ok (.getfield 130, 3) := dk_180 0 130 (dk_at dksX6_goes_2 14 rfl rfl)
theorem dX6_goes_64 : decode cX6_goes 64 = .ok (.sipush 1000, 3) := dk_17 3 232 (dk_at dksX6_goes_2 17 rfl rfl)
theorem dX6_goes_67 : decode cX6_goes 67 = .ok (.isub, 1) := dk_100 (dk_at dksX6_goes_2 20 rfl rfl)
theorem dX6_goes_68 : decode cX6_goes 68 = .ok (.putfield 130, 3) := dk_181 0 130 (dk_at dksX6_goes_2 21 rfl rfl)
theorem dX6_goes_71 : decode cX6_goes 71 = .ok (.goto (-49), 3) := dk_167 255 207 (dk_at dksX6_goes_3 0 rfl rfl)
theorem dX6_goes_74 : decode cX6_goes 74 = .ok (.aload_n 0, 1) := dk_42 (dk_at dksX6_goes_3 3 rfl rfl)
theorem dX6_goes_75 : decode cX6_goes 75 = .ok (.aload_n 1, 1) := dk_43 (dk_at dksX6_goes_3 4 rfl rfl)
theorem dX6_goes_76 : decode cX6_goes 76 = .ok (.invokevirtual 279, 3) := dk_182 1 23 (dk_at dksX6_goes_3 5 rfl rfl)
theorem dX6_goes_79 : decode cX6_goes 79 = .ok (.aload_n 0, 1) := dk_42 (dk_at dksX6_goes_3 8 rfl rfl)
theorem dX6_goes_80 : decode cX6_goes 80 = .ok (.aload_n 1, 1) := dk_43 (dk_at dksX6_goes_3 9 rfl rfl)
theorem dX6_goes_81 : decode cX6_goes 81 = .ok (.invokevirtual 282, 3) := dk_182 1 26 (dk_at dksX6_goes_3 10 rfl rfl)
theorem dX6_goes_84 : decode cX6_goes 84 = .ok (.istore_n 3, 1) := dk_62 (dk_at dksX6_goes_3 13 rfl rfl)
theorem dX6_goes_85 : decode cX6_goes 85 = .ok (.aload_n 0, 1) := dk_42 (dk_at dksX6_goes_3 14 rfl rfl)
theorem dX6_goes_86 : decode cX6_goes 86 = .ok (.getfield 67, 3) := dk_180 0 67 (dk_at dksX6_goes_3 15 rfl rfl)
theorem dX6_goes_89 : decode cX6_goes 89 = .ok (.iconst 1, 1) := dk_4 (dk_at dksX6_goes_3 18 rfl rfl)
theorem dX6_goes_90 : decode cX6_goes 90 = .ok (.if_icmp .ne 36, 3) := dk_160 0 36 (dk_at dksX6_goes_3 19 rfl rfl)
theorem dX6_goes_93 : decode cX6_goes 93 = .ok (.iload_n 3, 1) := dk_29 (dk_at dksX6_goes_3 22 rfl rfl)
theorem dX6_goes_94 : decode cX6_goes 94 = .ok (.aload_n 0, 1) := dk_42 (dk_at dksX6_goes_3 23 rfl rfl)
theorem dX6_goes_95 : decode cX6_goes 95 = .ok (.getfield 142, 3) := dk_180 0 142 (dk_at dksX6_goes_4 0 rfl rfl)
theorem dX6_goes_98 : decode cX6_goes 98 = .ok (.if_icmp .lt 28, 3) := dk_161 0 28 (dk_at dksX6_goes_4 3 rfl rfl)
theorem dX6_goes_101 : decode cX6_goes 101 = .ok (.aload_n 0, 1) := dk_42 (dk_at dksX6_goes_4 6 rfl rfl)
theorem dX6_goes_102 : decode cX6_goes 102 = .ok (.iconst 2, 1) := dk_5 (dk_at dksX6_goes_4 7 rfl rfl)
theorem dX6_goes_103 : decode cX6_goes 103 = .ok (.putfield 67, 3) := dk_181 0 67 (dk_at dksX6_goes_4 8 rfl rfl)
theorem dX6_goes_106 : decode cX6_goes 106 = .ok (.aload_n 0, 1) := dk_42 (dk_at dksX6_goes_4 11 rfl rfl)
theorem dX6_goes_107 : decode cX6_goes 107 = .ok (.aload_n 0, 1) := dk_42 (dk_at dksX6_goes_4 12 rfl rfl)
theorem dX6_goes_108 : decode cX6_goes 108 = .ok (.aload_n 0, 1) := dk_42 (dk_at dksX6_goes_4 13 rfl rfl)
theorem dX6_goes_109 : decode cX6_goes 109 = .ok (.aload_n 0, 1) := dk_42 (dk_at dksX6_goes_4 14 rfl rfl)
theorem dX6_goes_110 : decode cX6_goes 110 = .ok (.iconst 0, 1) := dk_3 (dk_at dksX6_goes_4 15 rfl rfl)
theorem dX6_goes_111 : decode cX6_goes 111 = .ok (.dup_x1, 1) := dk_90 (dk_at dksX6_goes_4 16 rfl rfl)
theorem dX6_goes_112 : decode cX6_goes 112 = .ok (.putfield 118, 3) := dk_181 0 118 (dk_at dksX6_goes_4 17 rfl rfl)
theorem dX6_goes_115 : decode cX6_goes 115 = .ok (.dup_x1, 1) := dk_90 (dk_at dksX6_goes_4 20 rfl rfl)
theorem dX6_goes_116 : decode cX6_goes 116 = .ok (.putfield 121, 3) := dk_181 0 121 (dk_at dksX6_goes_4 21 rfl rfl)
theorem dX6_goes_119 : decode cX6_goes 119 = .ok (.dup_x1, 1) := dk_90 (dk_at dksX6_goes_5 0 rfl rfl)
theorem dX6_goes_120 : decode cX6_goes 120 = .ok (.putfield 124, 3) := dk_181 0 124 (dk_at dksX6_goes_5 1 rfl rfl)
theorem dX6_goes_123 : decode cX6_goes 123 = .ok (.putfield 127, 3) := dk_181 0 127 (dk_at dksX6_goes_5 4 rfl rfl)
theorem dX6_goes_126 : decode cX6_goes 126 = .ok (.aload_n 0, 1) := dk_42 (dk_at dksX6_goes_5 7 rfl rfl)
theorem dX6_goes_127 : decode cX6_goes 127 = .ok (.getfield 67, 3) := dk_180 0 67 (dk_at dksX6_goes_5 8 rfl rfl)
theorem dX6_goes_130 : decode cX6_goes 130 = .ok (.iconst 2, 1) := dk_5 (dk_at dksX6_goes_5 11 rfl rfl)
theorem dX6_goes_131 : decode cX6_goes 131 = .ok (.if_icmp .ne 20, 3) := dk_160 0 20 (dk_at dksX6_goes_5 12 rfl rfl)
theorem dX6_goes_134 : decode cX6_goes 134 = .ok (.aload_n 0, 1) := dk_42 (dk_at dksX6_goes_5 15 rfl rfl)
theorem dX6_goes_135 : decode cX6_goes 135 = .ok (.getfield 64, 3) := dk_180 0 64 (dk_at dksX6_goes_5 16 rfl rfl)
theorem dX6_goes_138 : decode cX6_goes 138 = .ok (.aload_n 1, 1) := dk_43 (dk_at dksX6_goes_5 19 rfl rfl)
theorem dX6_goes_139 : decode cX6_goes 139 = .ok (.getfield 285, 3) := dk_180 1 29 (dk_at dksX6_goes_5 20 rfl rfl)
theorem dX6_goes_142 : decode cX6_goes 142 = .ok (.irem, 1) := dk_112 (dk_at dksX6_goes_5 23 rfl rfl)
theorem dX6_goes_143 : decode cX6_goes 143 = .ok (.ifCond .ne 8, 3) := dk_154 0 8 (dk_at dksX6_goes_6 0 rfl rfl)
theorem dX6_goes_146 : decode cX6_goes 146 = .ok (.aload_n 0, 1) := dk_42 (dk_at dksX6_goes_6 3 rfl rfl)
theorem dX6_goes_147 : decode cX6_goes 147 = .ok (.iload_n 3, 1) := dk_29 (dk_at dksX6_goes_6 4 rfl rfl)
theorem dX6_goes_148 : decode cX6_goes 148 = .ok (.invokevirtual 288, 3) := dk_182 1 32 (dk_at dksX6_goes_6 5 rfl rfl)
theorem dX6_goes_151 : decode cX6_goes 151 = .ok (.aload_n 0, 1) := dk_42 (dk_at dksX6_goes_6 8 rfl rfl)
theorem dX6_goes_152 : decode cX6_goes 152 = .ok (.getfield 67, 3) := dk_180 0 67 (dk_at dksX6_goes_6 9 rfl rfl)
theorem dX6_goes_155 : decode cX6_goes 155 = .ok (.iconst 2, 1) := dk_5 (dk_at dksX6_goes_6 12 rfl rfl)
theorem dX6_goes_156 : decode cX6_goes 156 = .ok (.if_icmp .ne 77, 3) := dk_160 0 77 (dk_at dksX6_goes_6 13 rfl rfl)
theorem dX6_goes_159 : decode cX6_goes 159 = .ok (.aload_n 0, 1) := dk_42 (dk_at dksX6_goes_6 16 rfl rfl)
theorem dX6_goes_160 : decode cX6_goes 160 = .ok (.dup, 1) := dk_89 (dk_at dksX6_goes_6 17 rfl rfl)
theorem dX6_goes_161 : decode cX6_goes 161 = .ok (.getfield 118, 3) := dk_180 0 118 (dk_at dksX6_goes_6 18 rfl rfl)
theorem dX6_goes_164 : decode cX6_goes 164 = .ok (.aload_n 0, 1) := dk_42 (dk_at dksX6_goes_6 21 rfl rfl)
theorem dX6_goes_165 : decode cX6_goes 165 = .ok (.getfield 138, 3) := dk_180 0 138 (dk_at dksX6_goes_7 0 rfl rfl)
theorem dX6_goes_168 : decode cX6_goes 168 = .ok (.aload_n 0, 1) := dk_42 (dk_at dksX6_goes_7 3 rfl rfl)
theorem dX6_goes_169 : decode cX6_goes 169 = .ok (.getfield 121, 3) := dk_180 0 121 (dk_at dksX6_goes_7 4 rfl rfl)
theorem dX6_goes_172 : decode cX6_goes 172 = .ok (.isub, 1) := dk_100 (dk_at dksX6_goes_7 7 rfl rfl)
theorem dX6_goes_173 : decode cX6_goes 173 = .ok (.iadd, 1) := dk_96 (dk_at dksX6_goes_7 8 rfl rfl)
theorem dX6_goes_174 : decode cX6_goes 174 = .ok (.putfield 118, 3) := dk_181 0 118 (dk_at dksX6_goes_7 9 rfl rfl)
theorem dX6_goes_177 : decode cX6_goes 177 = .ok (.aload_n 0, 1) := dk_42 (dk_at dksX6_goes_7 12 rfl rfl)
theorem dX6_goes_178 : decode cX6_goes 178 = .ok (.dup, 1) := dk_89 (dk_at dksX6_goes_7 13 rfl rfl)
theorem dX6_goes_179 : decode cX6_goes 179 = .ok (.getfield 127, 3) := dk_180 0 127 (dk_at dksX6_goes_7 14 rfl rfl)
theorem dX6_goes_182 : decode cX6_goes 182 = .ok (.sipush 1000, 3) := dk_17 3 232 (dk_at dksX6_goes_7 17 rfl rfl)
theorem dX6_goes_185 : decode cX6_goes 185 = .ok (.aload_n 0, 1) := dk_42 (dk_at dksX6_goes_7 20 rfl rfl)
theorem dX6_goes_186 : decode cX6_goes 186 = .ok (.getfield 121, 3) := dk_180 0 121 (dk_at dksX6_goes_7 21 rfl rfl)
theorem dX6_goes_189 : decode cX6_goes 189 = .ok (.iadd, 1) := dk_96 (dk_at dksX6_goes_8 0 rfl rfl)
theorem dX6_goes_190 : decode cX6_goes 190 = .ok (.iadd, 1) := dk_96 (dk_at dksX6_goes_8 1 rfl rfl)
theorem dX6_goes_191 : decode cX6_goes 191 = .ok (.putfield 127, 3) := dk_181 0 127 (dk_at dksX6_goes_8 2 rfl rfl)
theorem dX6_goes_194 : decode cX6_goes 194 = .ok (.aload_n 0, 1) := dk_42 (dk_at dksX6_goes_8 5 rfl rfl)
theorem dX6_goes_195 : decode cX6_goes 195 = .ok (.getfield 127, 3) := dk_180 0 127 (dk_at dksX6_goes_8 6 rfl rfl)
theorem dX6_goes_198 : decode cX6_goes 198 = .ok (.sipush 1000, 3) := dk_17 3 232 (dk_at dksX6_goes_8 9 rfl rfl)
theorem dX6_goes_201 : decode cX6_goes 201 = .ok (.if_icmp .lt 32, 3) := dk_161 0 32 (dk_at dksX6_goes_8 12 rfl rfl)
theorem dX6_goes_204 : decode cX6_goes 204 = .ok (.aload_n 0, 1) := dk_42 (dk_at dksX6_goes_8 15 rfl rfl)
theorem dX6_goes_205 : decode cX6_goes 205 = .ok (.getfield 67, 3) := dk_180 0 67 (dk_at dksX6_goes_8 16 rfl rfl)
theorem dX6_goes_208 : decode cX6_goes 208 = .ok (.iconst 2, 1) := dk_5 (dk_at dksX6_goes_8 19 rfl rfl)
theorem dX6_goes_209 : decode cX6_goes 209 = .ok (.if_icmp .ne 24, 3) := dk_160 0 24 (dk_at dksX6_goes_8 20 rfl rfl)
theorem dX6_goes_212 : decode cX6_goes 212 = .ok (.aload_n 0, 1) := dk_42 (dk_at dksX6_goes_8 23 rfl rfl)
theorem dX6_goes_213 : decode cX6_goes 213 = .ok (.aload_n 1, 1) := dk_43 (dk_at dksX6_goes_9 0 rfl rfl)
theorem dX6_goes_214 : decode cX6_goes 214 = .ok (.aload_n 2, 1) := dk_44 (dk_at dksX6_goes_9 1 rfl rfl)
theorem dX6_goes_215 : decode cX6_goes 215 = .ok (.invokevirtual 291, 3) := dk_182 1 35 (dk_at dksX6_goes_9 2 rfl rfl)
theorem dX6_goes_218 : decode cX6_goes 218 = .ok (.aload_n 0, 1) := dk_42 (dk_at dksX6_goes_9 5 rfl rfl)
theorem dX6_goes_219 : decode cX6_goes 219 = .ok (.dup, 1) := dk_89 (dk_at dksX6_goes_9 6 rfl rfl)
theorem dX6_goes_220 : decode cX6_goes 220 = .ok (.getfield 127, 3) := dk_180 0 127 (dk_at dksX6_goes_9 7 rfl rfl)
theorem dX6_goes_223 : decode cX6_goes 223 = .ok (.sipush 1000, 3) := dk_17 3 232 (dk_at dksX6_goes_9 10 rfl rfl)
theorem dX6_goes_226 : decode cX6_goes 226 = .ok (.isub, 1) := dk_100 (dk_at dksX6_goes_9 13 rfl rfl)
theorem dX6_goes_227 : decode cX6_goes 227 = .ok (.putfield 127, 3) := dk_181 0 127 (dk_at dksX6_goes_9 14 rfl rfl)
theorem dX6_goes_230 : decode cX6_goes 230 = .ok (.goto (-36), 3) := dk_167 255 220 (dk_at dksX6_goes_9 17 rfl rfl)
theorem dX6_goes_233 : decode cX6_goes 233 = .ok (.aload_n 0, 1) := dk_42 (dk_at dksX6_goes_9 20 rfl rfl)
theorem dX6_goes_234 : decode cX6_goes 234 = .ok (.dup, 1) := dk_89 (dk_at dksX6_goes_9 21 rfl rfl)
theorem dX6_goes_235 : decode cX6_goes 235 = .ok (.getfield 64, 3) := dk_180 0 64 (dk_at dksX6_goes_10 0 rfl rfl)
theorem dX6_goes_238 : decode cX6_goes 238 = .ok (.iconst 1, 1) := dk_4 (dk_at dksX6_goes_10 3 rfl rfl)
theorem dX6_goes_239 : decode cX6_goes 239 = .ok (.iadd, 1) := dk_96 (dk_at dksX6_goes_10 4 rfl rfl)
theorem dX6_goes_240 : decode cX6_goes 240 = .ok (.putfield 64, 3) := dk_181 0 64 (dk_at dksX6_goes_10 5 rfl rfl)
theorem dX6_goes_243 : decode cX6_goes 243 = .ok (.return_, 1) := dk_177 (dk_at dksX6_goes_10 8 rfl rfl)
abbrev cX6_sends : ByteArray := prog_16_method_9_code
def yX6_sends : MethodName := ⟨RX6, "sends", "(LCircuitCells$Line;)V"⟩
def dkwX6_sends_6 : List UInt8 := [181, 0, 70, 42, 28, 181, 0, 82, 42, 89, 180, 0, 58, 4, 96, 181, 0, 58, 177]
abbrev dktX6_sends_6 : List UInt8 := dkwX6_sends_6 ++ []
def dkwX6_sends_5 : List UInt8 := [42, 180, 0, 18, 42, 180, 0, 70, 42, 180, 0, 64, 17, 1, 0, 112, 79, 42, 89, 180, 0, 70, 4, 96]
abbrev dktX6_sends_5 : List UInt8 := dkwX6_sends_5 ++ dktX6_sends_6
def dkwX6_sends_4 : List UInt8 := [180, 0, 58, 79, 42, 180, 0, 15, 42, 180, 0, 70, 42, 180, 0, 64, 28, 96, 42, 180, 0, 76, 96, 79]
abbrev dktX6_sends_4 : List UInt8 := dkwX6_sends_4 ++ dktX6_sends_5
def dkwX6_sends_3 : List UInt8 := [42, 89, 180, 0, 55, 4, 96, 181, 0, 55, 167, 0, 63, 42, 180, 0, 9, 42, 180, 0, 70, 42]
abbrev dktX6_sends_3 : List UInt8 := dkwX6_sends_3 ++ dktX6_sends_4
def dkwX6_sends_2 : List UInt8 := [178, 0, 243, 42, 180, 0, 70, 182, 0, 231, 42, 43, 182, 0, 246, 61, 42, 43, 182, 0, 250, 153, 0, 16]
abbrev dktX6_sends_2 : List UInt8 := dkwX6_sends_2 ++ dktX6_sends_3
def dkwX6_sends_1 : List UInt8 := [180, 0, 64, 182, 0, 231, 43, 180, 0, 187, 178, 0, 240, 42, 180, 0, 82, 182, 0, 231, 43, 180, 0, 187]
abbrev dktX6_sends_1 : List UInt8 := dkwX6_sends_1 ++ dktX6_sends_2
def dkwX6_sends_0 : List UInt8 := [43, 180, 0, 187, 178, 0, 225, 42, 180, 0, 58, 182, 0, 231, 43, 180, 0, 187, 178, 0, 237, 42]
abbrev dktX6_sends_0 : List UInt8 := dkwX6_sends_0 ++ dktX6_sends_1
theorem dksX6_sends_0 : cX6_sends.data.toList.drop 0 = dktX6_sends_0 := by decide +kernel
theorem dksX6_sends_1 : cX6_sends.data.toList.drop 22 = dktX6_sends_1 := dk_seg dksX6_sends_0 22 rfl rfl
theorem dksX6_sends_2 : cX6_sends.data.toList.drop 46 = dktX6_sends_2 := dk_seg dksX6_sends_1 24 rfl rfl
theorem dksX6_sends_3 : cX6_sends.data.toList.drop 70 = dktX6_sends_3 := dk_seg dksX6_sends_2 24 rfl rfl
theorem dksX6_sends_4 : cX6_sends.data.toList.drop 92 = dktX6_sends_4 := dk_seg dksX6_sends_3 22 rfl rfl
theorem dksX6_sends_5 : cX6_sends.data.toList.drop 116 = dktX6_sends_5 := dk_seg dksX6_sends_4 24 rfl rfl
theorem dksX6_sends_6 : cX6_sends.data.toList.drop 140 = dktX6_sends_6 := dk_seg dksX6_sends_5 24 rfl rfl
theorem dX6_sends_0 : decode cX6_sends 0 = .ok (.aload_n 1, 1) := dk_43 (dk_at dksX6_sends_0 0 rfl rfl)
theorem dX6_sends_1 : decode cX6_sends 1 = .ok (.getfield 187, 3) := dk_180 0 187 (dk_at dksX6_sends_0 1 rfl rfl)
theorem dX6_sends_4 : decode cX6_sends 4 = .ok (.getstatic 225, 3) := dk_178 0 225 (dk_at dksX6_sends_0 4 rfl rfl)
theorem dX6_sends_7 : decode cX6_sends 7 = .ok (.aload_n 0, 1) := dk_42 (dk_at dksX6_sends_0 7 rfl rfl)
theorem dX6_sends_8 : decode cX6_sends 8 = .ok (.getfield 58, 3) := dk_180 0 58 (dk_at dksX6_sends_0 8 rfl rfl)
theorem dX6_sends_11 : decode cX6_sends 11 = .ok (.invokevirtual 231, 3) := dk_182 0 231 (dk_at dksX6_sends_0 11 rfl rfl)
theorem dX6_sends_14 : decode cX6_sends 14 = .ok (.aload_n 1, 1) := dk_43 (dk_at dksX6_sends_0 14 rfl rfl)
theorem dX6_sends_15 : decode cX6_sends 15 = .ok (.getfield 187, 3) := dk_180 0 187 (dk_at dksX6_sends_0 15 rfl rfl)
theorem dX6_sends_18 : decode cX6_sends 18 = .ok (.getstatic 237, 3) := dk_178 0 237 (dk_at dksX6_sends_0 18 rfl rfl)
theorem dX6_sends_21 : decode cX6_sends 21 = .ok (.aload_n 0, 1) := dk_42 (dk_at dksX6_sends_0 21 rfl rfl)
theorem dX6_sends_22 : decode cX6_sends 22 = .ok (.getfield 64, 3) := dk_180 0 64 (dk_at dksX6_sends_1 0 rfl rfl)
theorem dX6_sends_25 : decode cX6_sends 25 = .ok (.invokevirtual 231, 3) := dk_182 0 231 (dk_at dksX6_sends_1 3 rfl rfl)
theorem dX6_sends_28 : decode cX6_sends 28 = .ok (.aload_n 1, 1) := dk_43 (dk_at dksX6_sends_1 6 rfl rfl)
theorem dX6_sends_29 : decode cX6_sends 29 = .ok (.getfield 187, 3) := dk_180 0 187 (dk_at dksX6_sends_1 7 rfl rfl)
theorem dX6_sends_32 : decode cX6_sends 32 = .ok (.getstatic 240, 3) := dk_178 0 240 (dk_at dksX6_sends_1 10 rfl rfl)
theorem dX6_sends_35 : decode cX6_sends 35 = .ok (.aload_n 0, 1) := dk_42 (dk_at dksX6_sends_1 13 rfl rfl)
theorem dX6_sends_36 : decode cX6_sends 36 = .ok (.getfield 82, 3) := dk_180 0 82 (dk_at dksX6_sends_1 14 rfl rfl)
theorem dX6_sends_39 : decode cX6_sends 39 = .ok (.invokevirtual 231, 3) := dk_182 0 231 (dk_at dksX6_sends_1 17 rfl rfl)
theorem dX6_sends_42 : decode cX6_sends 42 = .ok (.aload_n 1, 1) := dk_43 (dk_at dksX6_sends_1 20 rfl rfl)
theorem dX6_sends_43 : decode cX6_sends 43 = .ok (.getfield 187, 3) := dk_180 0 187 (dk_at dksX6_sends_1 21 rfl rfl)
theorem dX6_sends_46 : decode cX6_sends 46 = .ok (.getstatic 243, 3) := dk_178 0 243 (dk_at dksX6_sends_2 0 rfl rfl)
theorem dX6_sends_49 : decode cX6_sends 49 = .ok (.aload_n 0, 1) := dk_42 (dk_at dksX6_sends_2 3 rfl rfl)
theorem dX6_sends_50 : decode cX6_sends 50 = .ok (.getfield 70, 3) := dk_180 0 70 (dk_at dksX6_sends_2 4 rfl rfl)
theorem dX6_sends_53 : decode cX6_sends 53 = .ok (.invokevirtual 231, 3) := dk_182 0 231 (dk_at dksX6_sends_2 7 rfl rfl)
theorem dX6_sends_56 : decode cX6_sends 56 = .ok (.aload_n 0, 1) := dk_42 (dk_at dksX6_sends_2 10 rfl rfl)
theorem dX6_sends_57 : decode cX6_sends 57 = .ok (.aload_n 1, 1) := dk_43 (dk_at dksX6_sends_2 11 rfl rfl)
theorem dX6_sends_58 : decode cX6_sends 58 = .ok (.invokevirtual 246, 3) := dk_182 0 246 (dk_at dksX6_sends_2 12 rfl rfl)
theorem dX6_sends_61 : decode cX6_sends 61 = .ok (.istore_n 2, 1) := dk_61 (dk_at dksX6_sends_2 15 rfl rfl)
theorem dX6_sends_62 : decode cX6_sends 62 = .ok (.aload_n 0, 1) := dk_42 (dk_at dksX6_sends_2 16 rfl rfl)
theorem dX6_sends_63 : decode cX6_sends 63 = .ok (.aload_n 1, 1) := dk_43 (dk_at dksX6_sends_2 17 rfl rfl)
theorem dX6_sends_64 : decode cX6_sends 64 = .ok (.invokevirtual 250, 3) := dk_182 0 250 (dk_at dksX6_sends_2 18 rfl rfl)
theorem dX6_sends_67 : decode cX6_sends 67 = .ok (.ifCond .eq 16, 3) := dk_153 0 16 (dk_at dksX6_sends_2 21 rfl rfl)
theorem dX6_sends_70 : decode cX6_sends 70 = .ok (.aload_n 0, 1) := dk_42 (dk_at dksX6_sends_3 0 rfl rfl)
theorem dX6_sends_71 : decode cX6_sends 71 = .ok (.dup, 1) := dk_89 (dk_at dksX6_sends_3 1 rfl rfl)
theorem dX6_sends_72 : decode cX6_sends 72 = .ok (.getfield 55, 3) := dk_180 0 55 (dk_at dksX6_sends_3 2 rfl rfl)
theorem dX6_sends_75 : decode cX6_sends 75 = .ok (.iconst 1, 1) := dk_4 (dk_at dksX6_sends_3 5 rfl rfl)
theorem dX6_sends_76 : decode cX6_sends 76 = .ok (.iadd, 1) := dk_96 (dk_at dksX6_sends_3 6 rfl rfl)
theorem dX6_sends_77 : decode cX6_sends 77 = .ok (.putfield 55, 3) := dk_181 0 55 (dk_at dksX6_sends_3 7 rfl rfl)
theorem dX6_sends_80 : decode cX6_sends 80 = .ok (.goto 63, 3) := dk_167 0 63 (dk_at dksX6_sends_3 10 rfl rfl)
theorem dX6_sends_83 : decode cX6_sends 83 = .ok (.aload_n 0, 1) := dk_42 (dk_at dksX6_sends_3 13 rfl rfl)
theorem dX6_sends_84 : decode cX6_sends 84 = .ok (.getfield 9, 3) := dk_180 0 9 (dk_at dksX6_sends_3 14 rfl rfl)
theorem dX6_sends_87 : decode cX6_sends 87 = .ok (.aload_n 0, 1) := dk_42 (dk_at dksX6_sends_3 17 rfl rfl)
theorem dX6_sends_88 : decode cX6_sends 88 = .ok (.getfield 70, 3) := dk_180 0 70 (dk_at dksX6_sends_3 18 rfl rfl)
theorem dX6_sends_91 : decode cX6_sends 91 = .ok (.aload_n 0, 1) := dk_42 (dk_at dksX6_sends_3 21 rfl rfl)
theorem dX6_sends_92 : decode cX6_sends 92 = .ok (.getfield 58, 3) := dk_180 0 58 (dk_at dksX6_sends_4 0 rfl rfl)
theorem dX6_sends_95 : decode cX6_sends 95 = .ok (.iastore, 1) := dk_79 (dk_at dksX6_sends_4 3 rfl rfl)
theorem dX6_sends_96 : decode cX6_sends 96 = .ok (.aload_n 0, 1) := dk_42 (dk_at dksX6_sends_4 4 rfl rfl)
theorem dX6_sends_97 : decode cX6_sends 97 = .ok (.getfield 15, 3) := dk_180 0 15 (dk_at dksX6_sends_4 5 rfl rfl)
theorem dX6_sends_100 : decode cX6_sends 100 = .ok (.aload_n 0, 1) := dk_42 (dk_at dksX6_sends_4 8 rfl rfl)
theorem dX6_sends_101 : decode cX6_sends 101 = .ok (.getfield 70, 3) := dk_180 0 70 (dk_at dksX6_sends_4 9 rfl rfl)
theorem dX6_sends_104 : decode cX6_sends 104 = .ok (.aload_n 0, 1) := dk_42 (dk_at dksX6_sends_4 12 rfl rfl)
theorem dX6_sends_105 : decode cX6_sends 105 = .ok (.getfield 64, 3) := dk_180 0 64 (dk_at dksX6_sends_4 13 rfl rfl)
theorem dX6_sends_108 : decode cX6_sends 108 = .ok (.iload_n 2, 1) := dk_28 (dk_at dksX6_sends_4 16 rfl rfl)
theorem dX6_sends_109 : decode cX6_sends 109 = .ok (.iadd, 1) := dk_96 (dk_at dksX6_sends_4 17 rfl rfl)
theorem dX6_sends_110 : decode cX6_sends 110 = .ok (.aload_n 0, 1) := dk_42 (dk_at dksX6_sends_4 18 rfl rfl)
theorem dX6_sends_111 : decode cX6_sends 111 = .ok (.getfield 76, 3) := dk_180 0 76 (dk_at dksX6_sends_4 19 rfl rfl)
theorem dX6_sends_114 : decode cX6_sends 114 = .ok (.iadd, 1) := dk_96 (dk_at dksX6_sends_4 22 rfl rfl)
theorem dX6_sends_115 : decode cX6_sends 115 = .ok (.iastore, 1) := dk_79 (dk_at dksX6_sends_4 23 rfl rfl)
theorem dX6_sends_116 : decode cX6_sends 116 = .ok (.aload_n 0, 1) := dk_42 (dk_at dksX6_sends_5 0 rfl rfl)
theorem dX6_sends_117 : decode cX6_sends 117 = .ok (.getfield 18, 3) := dk_180 0 18 (dk_at dksX6_sends_5 1 rfl rfl)
theorem dX6_sends_120 : decode cX6_sends 120 = .ok (.aload_n 0, 1) := dk_42 (dk_at dksX6_sends_5 4 rfl rfl)
theorem dX6_sends_121 : decode cX6_sends 121 = .ok (.getfield 70, 3) := dk_180 0 70 (dk_at dksX6_sends_5 5 rfl rfl)
theorem dX6_sends_124 : decode cX6_sends 124 = .ok (.aload_n 0, 1) := dk_42 (dk_at dksX6_sends_5 8 rfl rfl)
theorem dX6_sends_125 : decode cX6_sends 125 = .ok (.getfield 64, 3) := dk_180 0 64 (dk_at dksX6_sends_5 9 rfl rfl)
theorem dX6_sends_128 : decode cX6_sends 128 = .ok (.sipush 256, 3) := dk_17 1 0 (dk_at dksX6_sends_5 12 rfl rfl)
theorem dX6_sends_131 : decode cX6_sends 131 = .ok (.irem, 1) := dk_112 (dk_at dksX6_sends_5 15 rfl rfl)
theorem dX6_sends_132 : decode cX6_sends 132 = .ok (.iastore, 1) := dk_79 (dk_at dksX6_sends_5 16 rfl rfl)
theorem dX6_sends_133 : decode cX6_sends 133 = .ok (.aload_n 0, 1) := dk_42 (dk_at dksX6_sends_5 17 rfl rfl)
theorem dX6_sends_134 : decode cX6_sends 134 = .ok (.dup, 1) := dk_89 (dk_at dksX6_sends_5 18 rfl rfl)
theorem dX6_sends_135 : decode cX6_sends 135 = .ok (.getfield 70, 3) := dk_180 0 70 (dk_at dksX6_sends_5 19 rfl rfl)
theorem dX6_sends_138 : decode cX6_sends 138 = .ok (.iconst 1, 1) := dk_4 (dk_at dksX6_sends_5 22 rfl rfl)
theorem dX6_sends_139 : decode cX6_sends 139 = .ok (.iadd, 1) := dk_96 (dk_at dksX6_sends_5 23 rfl rfl)
theorem dX6_sends_140 : decode cX6_sends 140 = .ok (.putfield 70, 3) := dk_181 0 70 (dk_at dksX6_sends_6 0 rfl rfl)
theorem dX6_sends_143 : decode cX6_sends 143 = .ok (.aload_n 0, 1) := dk_42 (dk_at dksX6_sends_6 3 rfl rfl)
theorem dX6_sends_144 : decode cX6_sends 144 = .ok (.iload_n 2, 1) := dk_28 (dk_at dksX6_sends_6 4 rfl rfl)
theorem dX6_sends_145 : decode cX6_sends 145 = .ok (.putfield 82, 3) := dk_181 0 82 (dk_at dksX6_sends_6 5 rfl rfl)
theorem dX6_sends_148 : decode cX6_sends 148 = .ok (.aload_n 0, 1) := dk_42 (dk_at dksX6_sends_6 8 rfl rfl)
theorem dX6_sends_149 : decode cX6_sends 149 = .ok (.dup, 1) := dk_89 (dk_at dksX6_sends_6 9 rfl rfl)
theorem dX6_sends_150 : decode cX6_sends 150 = .ok (.getfield 58, 3) := dk_180 0 58 (dk_at dksX6_sends_6 10 rfl rfl)
theorem dX6_sends_153 : decode cX6_sends 153 = .ok (.iconst 1, 1) := dk_4 (dk_at dksX6_sends_6 13 rfl rfl)
theorem dX6_sends_154 : decode cX6_sends 154 = .ok (.iadd, 1) := dk_96 (dk_at dksX6_sends_6 14 rfl rfl)
theorem dX6_sends_155 : decode cX6_sends 155 = .ok (.putfield 58, 3) := dk_181 0 58 (dk_at dksX6_sends_6 15 rfl rfl)
theorem dX6_sends_158 : decode cX6_sends 158 = .ok (.return_, 1) := dk_177 (dk_at dksX6_sends_6 18 rfl rfl)
abbrev cX6_delayBy : ByteArray := prog_16_method_6_code
def yX6_delayBy : MethodName := ⟨RX6, "delayBy", "(LCircuitCells$Line;)I"⟩
def dkwX6_delayBy_3 : List UInt8 := [42, 180, 0, 178, 42, 180, 0, 58, 28, 182, 0, 206, 28, 172]
abbrev dktX6_delayBy_3 : List UInt8 := dkwX6_delayBy_3 ++ []
def dkwX6_delayBy_2 : List UInt8 := [180, 0, 174, 43, 180, 0, 187, 182, 0, 191, 184, 0, 197, 184, 0, 203, 61, 42, 180, 0, 178, 198, 0, 15]
abbrev dktX6_delayBy_2 : List UInt8 := dkwX6_delayBy_2 ++ dktX6_delayBy_3
def dkwX6_delayBy_1 : List UInt8 := [182, 0, 182, 2, 159, 0, 15, 42, 180, 0, 178, 42, 180, 0, 58, 182, 0, 182, 172, 3, 16, 60, 43]
abbrev dktX6_delayBy_1 : List UInt8 := dkwX6_delayBy_1 ++ dktX6_delayBy_2
def dkwX6_delayBy_0 : List UInt8 := [43, 180, 0, 174, 199, 0, 5, 6, 172, 42, 180, 0, 178, 198, 0, 30, 42, 180, 0, 178, 42, 180, 0, 58]
abbrev dktX6_delayBy_0 : List UInt8 := dkwX6_delayBy_0 ++ dktX6_delayBy_1
theorem dksX6_delayBy_0 : cX6_delayBy.data.toList.drop 0 = dktX6_delayBy_0 := by decide +kernel
theorem dksX6_delayBy_1 : cX6_delayBy.data.toList.drop 24 = dktX6_delayBy_1 := dk_seg dksX6_delayBy_0 24 rfl rfl
theorem dksX6_delayBy_2 : cX6_delayBy.data.toList.drop 47 = dktX6_delayBy_2 := dk_seg dksX6_delayBy_1 23 rfl rfl
theorem dksX6_delayBy_3 : cX6_delayBy.data.toList.drop 71 = dktX6_delayBy_3 := dk_seg dksX6_delayBy_2 24 rfl rfl
theorem dX6_delayBy_0 : decode cX6_delayBy 0 = .ok (.aload_n 1, 1) := dk_43 (dk_at dksX6_delayBy_0 0 rfl rfl)
theorem dX6_delayBy_1 : decode cX6_delayBy 1 = .ok (.getfield 174, 3) := dk_180 0 174 (dk_at dksX6_delayBy_0 1 rfl rfl)
theorem dX6_delayBy_4 : decode cX6_delayBy 4 = .ok (.ifnonnull 5, 3) := dk_199 0 5 (dk_at dksX6_delayBy_0 4 rfl rfl)
theorem dX6_delayBy_7 : decode cX6_delayBy 7 = .ok (.iconst 3, 1) := dk_6 (dk_at dksX6_delayBy_0 7 rfl rfl)
theorem dX6_delayBy_8 : decode cX6_delayBy 8 = .ok (.ireturn, 1) := dk_172 (dk_at dksX6_delayBy_0 8 rfl rfl)
theorem dX6_delayBy_9 : decode cX6_delayBy 9 = .ok (.aload_n 0, 1) := dk_42 (dk_at dksX6_delayBy_0 9 rfl rfl)
theorem dX6_delayBy_10 : decode cX6_delayBy 10 = .ok (.getfield 178, 3) := dk_180 0 178 (dk_at dksX6_delayBy_0 10 rfl rfl)
theorem dX6_delayBy_13 : decode cX6_delayBy 13 = .ok (.ifnull 30, 3) := dk_198 0 30 (dk_at dksX6_delayBy_0 13 rfl rfl)
theorem dX6_delayBy_16 : decode cX6_delayBy 16 = .ok (.aload_n 0, 1) := dk_42 (dk_at dksX6_delayBy_0 16 rfl rfl)
theorem dX6_delayBy_17 : decode cX6_delayBy 17 = .ok (.getfield 178, 3) := dk_180 0 178 (dk_at dksX6_delayBy_0 17 rfl rfl)
theorem dX6_delayBy_20 : decode cX6_delayBy 20 = .ok (.aload_n 0, 1) := dk_42 (dk_at dksX6_delayBy_0 20 rfl rfl)
theorem dX6_delayBy_21 : decode cX6_delayBy 21 = .ok (.getfield 58, 3) := dk_180 0 58 (dk_at dksX6_delayBy_0 21 rfl rfl)
theorem dX6_delayBy_24 : decode cX6_delayBy 24 = .ok (.invokevirtual 182, 3) := dk_182 0 182 (dk_at dksX6_delayBy_1 0 rfl rfl)
theorem dX6_delayBy_27 : decode cX6_delayBy 27 = .ok (.iconst (-1), 1) := dk_2 (dk_at dksX6_delayBy_1 3 rfl rfl)
theorem dX6_delayBy_28 : decode cX6_delayBy 28 = .ok (.if_icmp .eq 15, 3) := dk_159 0 15 (dk_at dksX6_delayBy_1 4 rfl rfl)
theorem dX6_delayBy_31 : decode cX6_delayBy 31 = .ok (.aload_n 0, 1) := dk_42 (dk_at dksX6_delayBy_1 7 rfl rfl)
theorem dX6_delayBy_32 : decode cX6_delayBy 32 = .ok (.getfield 178, 3) := dk_180 0 178 (dk_at dksX6_delayBy_1 8 rfl rfl)
theorem dX6_delayBy_35 : decode cX6_delayBy 35 = .ok (.aload_n 0, 1) := dk_42 (dk_at dksX6_delayBy_1 11 rfl rfl)
theorem dX6_delayBy_36 : decode cX6_delayBy 36 = .ok (.getfield 58, 3) := dk_180 0 58 (dk_at dksX6_delayBy_1 12 rfl rfl)
theorem dX6_delayBy_39 : decode cX6_delayBy 39 = .ok (.invokevirtual 182, 3) := dk_182 0 182 (dk_at dksX6_delayBy_1 15 rfl rfl)
theorem dX6_delayBy_42 : decode cX6_delayBy 42 = .ok (.ireturn, 1) := dk_172 (dk_at dksX6_delayBy_1 18 rfl rfl)
theorem dX6_delayBy_43 : decode cX6_delayBy 43 = .ok (.iconst 0, 1) := dk_3 (dk_at dksX6_delayBy_1 19 rfl rfl)
theorem dX6_delayBy_44 : decode cX6_delayBy 44 = .ok (.bipush 60, 2) := dk_16 60 (dk_at dksX6_delayBy_1 20 rfl rfl)
theorem dX6_delayBy_46 : decode cX6_delayBy 46 = .ok (.aload_n 1, 1) := dk_43 (dk_at dksX6_delayBy_1 22 rfl rfl)
theorem dX6_delayBy_47 : decode cX6_delayBy 47 = .ok (.getfield 174, 3) := dk_180 0 174 (dk_at dksX6_delayBy_2 0 rfl rfl)
theorem dX6_delayBy_50 : decode cX6_delayBy 50 = .ok (.aload_n 1, 1) := dk_43 (dk_at dksX6_delayBy_2 3 rfl rfl)
theorem dX6_delayBy_51 : decode cX6_delayBy 51 = .ok (.getfield 187, 3) := dk_180 0 187 (dk_at dksX6_delayBy_2 4 rfl rfl)
theorem dX6_delayBy_54 : decode cX6_delayBy 54 = .ok (.invokevirtual 191, 3) := dk_182 0 191 (dk_at dksX6_delayBy_2 7 rfl rfl)
theorem dX6_delayBy_57 : decode cX6_delayBy 57 = .ok (.invokestatic 197, 3) := dk_184 0 197 (dk_at dksX6_delayBy_2 10 rfl rfl)
theorem dX6_delayBy_60 : decode cX6_delayBy 60 = .ok (.invokestatic 203, 3) := dk_184 0 203 (dk_at dksX6_delayBy_2 13 rfl rfl)
theorem dX6_delayBy_63 : decode cX6_delayBy 63 = .ok (.istore_n 2, 1) := dk_61 (dk_at dksX6_delayBy_2 16 rfl rfl)
theorem dX6_delayBy_64 : decode cX6_delayBy 64 = .ok (.aload_n 0, 1) := dk_42 (dk_at dksX6_delayBy_2 17 rfl rfl)
theorem dX6_delayBy_65 : decode cX6_delayBy 65 = .ok (.getfield 178, 3) := dk_180 0 178 (dk_at dksX6_delayBy_2 18 rfl rfl)
theorem dX6_delayBy_68 : decode cX6_delayBy 68 = .ok (.ifnull 15, 3) := dk_198 0 15 (dk_at dksX6_delayBy_2 21 rfl rfl)
theorem dX6_delayBy_71 : decode cX6_delayBy 71 = .ok (.aload_n 0, 1) := dk_42 (dk_at dksX6_delayBy_3 0 rfl rfl)
theorem dX6_delayBy_72 : decode cX6_delayBy 72 = .ok (.getfield 178, 3) := dk_180 0 178 (dk_at dksX6_delayBy_3 1 rfl rfl)
theorem dX6_delayBy_75 : decode cX6_delayBy 75 = .ok (.aload_n 0, 1) := dk_42 (dk_at dksX6_delayBy_3 4 rfl rfl)
theorem dX6_delayBy_76 : decode cX6_delayBy 76 = .ok (.getfield 58, 3) := dk_180 0 58 (dk_at dksX6_delayBy_3 5 rfl rfl)
theorem dX6_delayBy_79 : decode cX6_delayBy 79 = .ok (.iload_n 2, 1) := dk_28 (dk_at dksX6_delayBy_3 8 rfl rfl)
theorem dX6_delayBy_80 : decode cX6_delayBy 80 = .ok (.invokevirtual 206, 3) := dk_182 0 206 (dk_at dksX6_delayBy_3 9 rfl rfl)
theorem dX6_delayBy_83 : decode cX6_delayBy 83 = .ok (.iload_n 2, 1) := dk_28 (dk_at dksX6_delayBy_3 12 rfl rfl)
theorem dX6_delayBy_84 : decode cX6_delayBy 84 = .ok (.ireturn, 1) := dk_172 (dk_at dksX6_delayBy_3 13 rfl rfl)
abbrev cX6_isLost : ByteArray := prog_16_method_8_code
def yX6_isLost : MethodName := ⟨RX6, "isLost", "(LCircuitCells$Line;)Z"⟩
def dkwX6_isLost_3 : List UInt8 := [43, 182, 0, 221, 154, 0, 12, 42, 180, 0, 70, 16, 40, 160, 0, 7, 4, 167, 0, 4, 3, 172]
abbrev dktX6_isLost_3 : List UInt8 := dkwX6_isLost_3 ++ []
def dkwX6_isLost_2 : List UInt8 := [172, 167, 0, 22, 42, 180, 0, 79, 158, 0, 15, 42, 89, 180, 0, 79, 4, 100, 181, 0, 79, 4, 172, 42]
abbrev dktX6_isLost_2 : List UInt8 := dkwX6_isLost_2 ++ dktX6_isLost_3
def dkwX6_isLost_1 : List UInt8 := [160, 0, 7, 4, 167, 0, 4, 3, 61, 42, 89, 180, 0, 218, 4, 122, 181, 0, 218, 28, 153, 0, 5, 28]
abbrev dktX6_isLost_1 : List UInt8 := dkwX6_isLost_1 ++ dktX6_isLost_2
def dkwX6_isLost_0 : List UInt8 := [42, 180, 0, 171, 158, 0, 48, 42, 89, 180, 0, 171, 4, 100, 181, 0, 171, 42, 180, 0, 218, 4, 126, 4]
abbrev dktX6_isLost_0 : List UInt8 := dkwX6_isLost_0 ++ dktX6_isLost_1
theorem dksX6_isLost_0 : cX6_isLost.data.toList.drop 0 = dktX6_isLost_0 := by decide +kernel
theorem dksX6_isLost_1 : cX6_isLost.data.toList.drop 24 = dktX6_isLost_1 := dk_seg dksX6_isLost_0 24 rfl rfl
theorem dksX6_isLost_2 : cX6_isLost.data.toList.drop 48 = dktX6_isLost_2 := dk_seg dksX6_isLost_1 24 rfl rfl
theorem dksX6_isLost_3 : cX6_isLost.data.toList.drop 72 = dktX6_isLost_3 := dk_seg dksX6_isLost_2 24 rfl rfl
theorem dX6_isLost_0 : decode cX6_isLost 0 = .ok (.aload_n 0, 1) := dk_42 (dk_at dksX6_isLost_0 0 rfl rfl)
theorem dX6_isLost_1 : decode cX6_isLost 1 = .ok (.getfield 171, 3) := dk_180 0 171 (dk_at dksX6_isLost_0 1 rfl rfl)
theorem dX6_isLost_4 : decode cX6_isLost 4 = .ok (.ifCond .le 48, 3) := dk_158 0 48 (dk_at dksX6_isLost_0 4 rfl rfl)
theorem dX6_isLost_7 : decode cX6_isLost 7 = .ok (.aload_n 0, 1) := dk_42 (dk_at dksX6_isLost_0 7 rfl rfl)
theorem dX6_isLost_8 : decode cX6_isLost 8 = .ok (.dup, 1) := dk_89 (dk_at dksX6_isLost_0 8 rfl rfl)
theorem dX6_isLost_9 : decode cX6_isLost 9 = .ok (.getfield 171, 3) := dk_180 0 171 (dk_at dksX6_isLost_0 9 rfl rfl)
theorem dX6_isLost_12 : decode cX6_isLost 12 = .ok (.iconst 1, 1) := dk_4 (dk_at dksX6_isLost_0 12 rfl rfl)
theorem dX6_isLost_13 : decode cX6_isLost 13 = .ok (.isub, 1) := dk_100 (dk_at dksX6_isLost_0 13 rfl rfl)
theorem dX6_isLost_14 : decode cX6_isLost 14 = .ok (.putfield 171, 3) := dk_181 0 171 (dk_at dksX6_isLost_0 14 rfl rfl)
theorem dX6_isLost_17 : decode cX6_isLost 17 = .ok (.aload_n 0, 1) := dk_42 (dk_at dksX6_isLost_0 17 rfl rfl)
theorem dX6_isLost_18 : decode cX6_isLost 18 = .ok (.getfield 218, 3) := dk_180 0 218 (dk_at dksX6_isLost_0 18 rfl rfl)
theorem dX6_isLost_21 : decode cX6_isLost 21 = .ok (.iconst 1, 1) := dk_4 (dk_at dksX6_isLost_0 21 rfl rfl)
theorem dX6_isLost_22 : decode cX6_isLost 22 = .ok (.iand, 1) := dk_126 (dk_at dksX6_isLost_0 22 rfl rfl)
theorem dX6_isLost_23 : decode cX6_isLost 23 = .ok (.iconst 1, 1) := dk_4 (dk_at dksX6_isLost_0 23 rfl rfl)
theorem dX6_isLost_24 : decode cX6_isLost 24 = .ok (.if_icmp .ne 7, 3) := dk_160 0 7 (dk_at dksX6_isLost_1 0 rfl rfl)
theorem dX6_isLost_27 : decode cX6_isLost 27 = .ok (.iconst 1, 1) := dk_4 (dk_at dksX6_isLost_1 3 rfl rfl)
theorem dX6_isLost_28 : decode cX6_isLost 28 = .ok (.goto 4, 3) := dk_167 0 4 (dk_at dksX6_isLost_1 4 rfl rfl)
theorem dX6_isLost_31 : decode cX6_isLost 31 = .ok (.iconst 0, 1) := dk_3 (dk_at dksX6_isLost_1 7 rfl rfl)
theorem dX6_isLost_32 : decode cX6_isLost 32 = .ok (.istore_n 2, 1) := dk_61 (dk_at dksX6_isLost_1 8 rfl rfl)
theorem dX6_isLost_33 : decode cX6_isLost 33 = .ok (.aload_n 0, 1) := dk_42 (dk_at dksX6_isLost_1 9 rfl rfl)
theorem dX6_isLost_34 : decode cX6_isLost 34 = .ok (.dup, 1) := dk_89 (dk_at dksX6_isLost_1 10 rfl rfl)
theorem dX6_isLost_35 : decode cX6_isLost 35 = .ok (.getfield 218, 3) := dk_180 0 218 (dk_at dksX6_isLost_1 11 rfl rfl)
theorem dX6_isLost_38 : decode cX6_isLost 38 = .ok (.iconst 1, 1) := dk_4 (dk_at dksX6_isLost_1 14 rfl rfl)
theorem dX6_isLost_39 : decode cX6_isLost 39 = .ok (.ishr, 1) := dk_122 (dk_at dksX6_isLost_1 15 rfl rfl)
theorem dX6_isLost_40 : decode cX6_isLost 40 = .ok (.putfield 218, 3) := dk_181 0 218 (dk_at dksX6_isLost_1 16 rfl rfl)
theorem dX6_isLost_43 : decode cX6_isLost 43 = .ok (.iload_n 2, 1) := dk_28 (dk_at dksX6_isLost_1 19 rfl rfl)
theorem dX6_isLost_44 : decode cX6_isLost 44 = .ok (.ifCond .eq 5, 3) := dk_153 0 5 (dk_at dksX6_isLost_1 20 rfl rfl)
theorem dX6_isLost_47 : decode cX6_isLost 47 = .ok (.iload_n 2, 1) := dk_28 (dk_at dksX6_isLost_1 23 rfl rfl)
theorem dX6_isLost_48 : decode cX6_isLost 48 = .ok (.ireturn, 1) := dk_172 (dk_at dksX6_isLost_2 0 rfl rfl)
theorem dX6_isLost_49 : decode cX6_isLost 49 = .ok (.goto 22, 3) := dk_167 0 22 (dk_at dksX6_isLost_2 1 rfl rfl)
theorem dX6_isLost_52 : decode cX6_isLost 52 = .ok (.aload_n 0, 1) := dk_42 (dk_at dksX6_isLost_2 4 rfl rfl)
theorem dX6_isLost_53 : decode cX6_isLost 53 = .ok (.getfield 79, 3) := dk_180 0 79 (dk_at dksX6_isLost_2 5 rfl rfl)
theorem dX6_isLost_56 : decode cX6_isLost 56 = .ok (.ifCond .le 15, 3) := dk_158 0 15 (dk_at dksX6_isLost_2 8 rfl rfl)
theorem dX6_isLost_59 : decode cX6_isLost 59 = .ok (.aload_n 0, 1) := dk_42 (dk_at dksX6_isLost_2 11 rfl rfl)
theorem dX6_isLost_60 : decode cX6_isLost 60 = .ok (.dup, 1) := dk_89 (dk_at dksX6_isLost_2 12 rfl rfl)
theorem dX6_isLost_61 : decode cX6_isLost 61 = .ok (.getfield 79, 3) := dk_180 0 79 (dk_at dksX6_isLost_2 13 rfl rfl)
theorem dX6_isLost_64 : decode cX6_isLost 64 = .ok (.iconst 1, 1) := dk_4 (dk_at dksX6_isLost_2 16 rfl rfl)
theorem dX6_isLost_65 : decode cX6_isLost 65 = .ok (.isub, 1) := dk_100 (dk_at dksX6_isLost_2 17 rfl rfl)
theorem dX6_isLost_66 : decode cX6_isLost 66 = .ok (.putfield 79, 3) := dk_181 0 79 (dk_at dksX6_isLost_2 18 rfl rfl)
theorem dX6_isLost_69 : decode cX6_isLost 69 = .ok (.iconst 1, 1) := dk_4 (dk_at dksX6_isLost_2 21 rfl rfl)
theorem dX6_isLost_70 : decode cX6_isLost 70 = .ok (.ireturn, 1) := dk_172 (dk_at dksX6_isLost_2 22 rfl rfl)
theorem dX6_isLost_71 : decode cX6_isLost 71 = .ok (.aload_n 0, 1) := dk_42 (dk_at dksX6_isLost_2 23 rfl rfl)
theorem dX6_isLost_72 : decode cX6_isLost 72 = .ok (.aload_n 1, 1) := dk_43 (dk_at dksX6_isLost_3 0 rfl rfl)
theorem dX6_isLost_73 : decode cX6_isLost 73 = .ok (.invokevirtual 221, 3) := dk_182 0 221 (dk_at dksX6_isLost_3 1 rfl rfl)
theorem dX6_isLost_76 : decode cX6_isLost 76 = .ok (.ifCond .ne 12, 3) := dk_154 0 12 (dk_at dksX6_isLost_3 4 rfl rfl)
theorem dX6_isLost_79 : decode cX6_isLost 79 = .ok (.aload_n 0, 1) := dk_42 (dk_at dksX6_isLost_3 7 rfl rfl)
theorem dX6_isLost_80 : decode cX6_isLost 80 = .ok (.getfield 70, 3) := dk_180 0 70 (dk_at dksX6_isLost_3 8 rfl rfl)
theorem dX6_isLost_83 : decode cX6_isLost 83 = .ok (.bipush 40, 2) := dk_16 40 (dk_at dksX6_isLost_3 11 rfl rfl)
theorem dX6_isLost_85 : decode cX6_isLost 85 = .ok (.if_icmp .ne 7, 3) := dk_160 0 7 (dk_at dksX6_isLost_3 13 rfl rfl)
theorem dX6_isLost_88 : decode cX6_isLost 88 = .ok (.iconst 1, 1) := dk_4 (dk_at dksX6_isLost_3 16 rfl rfl)
theorem dX6_isLost_89 : decode cX6_isLost 89 = .ok (.goto 4, 3) := dk_167 0 4 (dk_at dksX6_isLost_3 17 rfl rfl)
theorem dX6_isLost_92 : decode cX6_isLost 92 = .ok (.iconst 0, 1) := dk_3 (dk_at dksX6_isLost_3 20 rfl rfl)
theorem dX6_isLost_93 : decode cX6_isLost 93 = .ok (.ireturn, 1) := dk_172 (dk_at dksX6_isLost_3 21 rfl rfl)
abbrev cX6_isLostBy : ByteArray := prog_16_method_7_code
def yX6_isLostBy : MethodName := ⟨RX6, "isLostBy", "(LCircuitCells$Line;)Z"⟩
def dkwX6_isLostBy_3 : List UInt8 := [61, 42, 180, 0, 178, 198, 0, 15, 42, 180, 0, 178, 42, 180, 0, 58, 28, 182, 0, 214, 28, 172]
abbrev dktX6_isLostBy_3 : List UInt8 := dkwX6_isLostBy_3 ++ []
def dkwX6_isLostBy_2 : List UInt8 := [167, 0, 4, 3, 172, 43, 180, 0, 210, 43, 180, 0, 187, 182, 0, 191, 158, 0, 7, 4, 167, 0, 4, 3]
abbrev dktX6_isLostBy_2 : List UInt8 := dkwX6_isLostBy_2 ++ dktX6_isLostBy_3
def dkwX6_isLostBy_1 : List UInt8 := [182, 0, 212, 2, 159, 0, 24, 42, 180, 0, 178, 42, 180, 0, 58, 182, 0, 212, 4, 160, 0, 7, 4]
abbrev dktX6_isLostBy_1 : List UInt8 := dkwX6_isLostBy_1 ++ dktX6_isLostBy_2
def dkwX6_isLostBy_0 : List UInt8 := [43, 180, 0, 210, 199, 0, 5, 3, 172, 42, 180, 0, 178, 198, 0, 39, 42, 180, 0, 178, 42, 180, 0, 58]
abbrev dktX6_isLostBy_0 : List UInt8 := dkwX6_isLostBy_0 ++ dktX6_isLostBy_1
theorem dksX6_isLostBy_0 : cX6_isLostBy.data.toList.drop 0 = dktX6_isLostBy_0 := by decide +kernel
theorem dksX6_isLostBy_1 : cX6_isLostBy.data.toList.drop 24 = dktX6_isLostBy_1 := dk_seg dksX6_isLostBy_0 24 rfl rfl
theorem dksX6_isLostBy_2 : cX6_isLostBy.data.toList.drop 47 = dktX6_isLostBy_2 := dk_seg dksX6_isLostBy_1 23 rfl rfl
theorem dksX6_isLostBy_3 : cX6_isLostBy.data.toList.drop 71 = dktX6_isLostBy_3 := dk_seg dksX6_isLostBy_2 24 rfl rfl
theorem dX6_isLostBy_0 : decode cX6_isLostBy 0 = .ok (.aload_n 1, 1) := dk_43 (dk_at dksX6_isLostBy_0 0 rfl rfl)
theorem dX6_isLostBy_1 : decode cX6_isLostBy 1 = .ok (.getfield 210, 3) := dk_180 0 210 (dk_at dksX6_isLostBy_0 1 rfl rfl)
theorem dX6_isLostBy_4 : decode cX6_isLostBy 4 = .ok (.ifnonnull 5, 3) := dk_199 0 5 (dk_at dksX6_isLostBy_0 4 rfl rfl)
theorem dX6_isLostBy_7 : decode cX6_isLostBy 7 = .ok (.iconst 0, 1) := dk_3 (dk_at dksX6_isLostBy_0 7 rfl rfl)
theorem dX6_isLostBy_8 : decode cX6_isLostBy 8 = .ok (.ireturn, 1) := dk_172 (dk_at dksX6_isLostBy_0 8 rfl rfl)
theorem dX6_isLostBy_9 : decode cX6_isLostBy 9 = .ok (.aload_n 0, 1) := dk_42 (dk_at dksX6_isLostBy_0 9 rfl rfl)
theorem dX6_isLostBy_10 : decode cX6_isLostBy 10 = .ok (.getfield 178, 3) := dk_180 0 178 (dk_at dksX6_isLostBy_0 10 rfl rfl)
theorem dX6_isLostBy_13 : decode cX6_isLostBy 13 = .ok (.ifnull 39, 3) := dk_198 0 39 (dk_at dksX6_isLostBy_0 13 rfl rfl)
theorem dX6_isLostBy_16 : decode cX6_isLostBy 16 = .ok (.aload_n 0, 1) := dk_42 (dk_at dksX6_isLostBy_0 16 rfl rfl)
theorem dX6_isLostBy_17 : decode cX6_isLostBy 17 = .ok (.getfield 178, 3) := dk_180 0 178 (dk_at dksX6_isLostBy_0 17 rfl rfl)
theorem dX6_isLostBy_20 : decode cX6_isLostBy 20 = .ok (.aload_n 0, 1) := dk_42 (dk_at dksX6_isLostBy_0 20 rfl rfl)
theorem dX6_isLostBy_21 : decode cX6_isLostBy 21 = .ok (.getfield 58, 3) := dk_180 0 58 (dk_at dksX6_isLostBy_0 21 rfl rfl)
theorem dX6_isLostBy_24 : decode cX6_isLostBy 24 = .ok (.invokevirtual 212, 3) := dk_182 0 212 (dk_at dksX6_isLostBy_1 0 rfl rfl)
theorem dX6_isLostBy_27 : decode cX6_isLostBy 27 = .ok (.iconst (-1), 1) := dk_2 (dk_at dksX6_isLostBy_1 3 rfl rfl)
theorem dX6_isLostBy_28 : decode cX6_isLostBy 28 = .ok (.if_icmp .eq 24, 3) := dk_159 0 24 (dk_at dksX6_isLostBy_1 4 rfl rfl)
theorem dX6_isLostBy_31 : decode cX6_isLostBy 31 = .ok (.aload_n 0, 1) := dk_42 (dk_at dksX6_isLostBy_1 7 rfl rfl)
theorem dX6_isLostBy_32 : decode cX6_isLostBy 32 = .ok (.getfield 178, 3) := dk_180 0 178 (dk_at dksX6_isLostBy_1 8 rfl rfl)
theorem dX6_isLostBy_35 : decode cX6_isLostBy 35 = .ok (.aload_n 0, 1) := dk_42 (dk_at dksX6_isLostBy_1 11 rfl rfl)
theorem dX6_isLostBy_36 : decode cX6_isLostBy 36 = .ok (.getfield 58, 3) := dk_180 0 58 (dk_at dksX6_isLostBy_1 12 rfl rfl)
theorem dX6_isLostBy_39 : decode cX6_isLostBy 39 = .ok (.invokevirtual 212, 3) := dk_182 0 212 (dk_at dksX6_isLostBy_1 15 rfl rfl)
theorem dX6_isLostBy_42 : decode cX6_isLostBy 42 = .ok (.iconst 1, 1) := dk_4 (dk_at dksX6_isLostBy_1 18 rfl rfl)
theorem dX6_isLostBy_43 : decode cX6_isLostBy 43 = .ok (.if_icmp .ne 7, 3) := dk_160 0 7 (dk_at dksX6_isLostBy_1 19 rfl rfl)
theorem dX6_isLostBy_46 : decode cX6_isLostBy 46 = .ok (.iconst 1, 1) := dk_4 (dk_at dksX6_isLostBy_1 22 rfl rfl)
theorem dX6_isLostBy_47 : decode cX6_isLostBy 47 = .ok (.goto 4, 3) := dk_167 0 4 (dk_at dksX6_isLostBy_2 0 rfl rfl)
theorem dX6_isLostBy_50 : decode cX6_isLostBy 50 = .ok (.iconst 0, 1) := dk_3 (dk_at dksX6_isLostBy_2 3 rfl rfl)
theorem dX6_isLostBy_51 : decode cX6_isLostBy 51 = .ok (.ireturn, 1) := dk_172 (dk_at dksX6_isLostBy_2 4 rfl rfl)
theorem dX6_isLostBy_52 : decode cX6_isLostBy 52 = .ok (.aload_n 1, 1) := dk_43 (dk_at dksX6_isLostBy_2 5 rfl rfl)
theorem dX6_isLostBy_53 : decode cX6_isLostBy 53 = .ok (.getfield 210, 3) := dk_180 0 210 (dk_at dksX6_isLostBy_2 6 rfl rfl)
theorem dX6_isLostBy_56 : decode cX6_isLostBy 56 = .ok (.aload_n 1, 1) := dk_43 (dk_at dksX6_isLostBy_2 9 rfl rfl)
theorem dX6_isLostBy_57 : decode cX6_isLostBy 57 = .ok (.getfield 187, 3) := dk_180 0 187 (dk_at dksX6_isLostBy_2 10 rfl rfl)
theorem dX6_isLostBy_60 : decode cX6_isLostBy 60 = .ok (.invokevirtual 191, 3) := dk_182 0 191 (dk_at dksX6_isLostBy_2 13 rfl rfl)
theorem dX6_isLostBy_63 : decode cX6_isLostBy 63 = .ok (.ifCond .le 7, 3) := dk_158 0 7 (dk_at dksX6_isLostBy_2 16 rfl rfl)
theorem dX6_isLostBy_66 : decode cX6_isLostBy 66 = .ok (.iconst 1, 1) := dk_4 (dk_at dksX6_isLostBy_2 19 rfl rfl)
theorem dX6_isLostBy_67 : decode cX6_isLostBy 67 = .ok (.goto 4, 3) := dk_167 0 4 (dk_at dksX6_isLostBy_2 20 rfl rfl)
theorem dX6_isLostBy_70 : decode cX6_isLostBy 70 = .ok (.iconst 0, 1) := dk_3 (dk_at dksX6_isLostBy_2 23 rfl rfl)
theorem dX6_isLostBy_71 : decode cX6_isLostBy 71 = .ok (.istore_n 2, 1) := dk_61 (dk_at dksX6_isLostBy_3 0 rfl rfl)
theorem dX6_isLostBy_72 : decode cX6_isLostBy 72 = .ok (.aload_n 0, 1) := dk_42 (dk_at dksX6_isLostBy_3 1 rfl rfl)
theorem dX6_isLostBy_73 : decode cX6_isLostBy 73 = .ok (.getfield 178, 3) := dk_180 0 178 (dk_at dksX6_isLostBy_3 2 rfl rfl)
theorem dX6_isLostBy_76 : decode cX6_isLostBy 76 = .ok (.ifnull 15, 3) := dk_198 0 15 (dk_at dksX6_isLostBy_3 5 rfl rfl)
theorem dX6_isLostBy_79 : decode cX6_isLostBy 79 = .ok (.aload_n 0, 1) := dk_42 (dk_at dksX6_isLostBy_3 8 rfl rfl)
theorem dX6_isLostBy_80 : decode cX6_isLostBy 80 = .ok (.getfield 178, 3) := dk_180 0 178 (dk_at dksX6_isLostBy_3 9 rfl rfl)
theorem dX6_isLostBy_83 : decode cX6_isLostBy 83 = .ok (.aload_n 0, 1) := dk_42 (dk_at dksX6_isLostBy_3 12 rfl rfl)
theorem dX6_isLostBy_84 : decode cX6_isLostBy 84 = .ok (.getfield 58, 3) := dk_180 0 58 (dk_at dksX6_isLostBy_3 13 rfl rfl)
theorem dX6_isLostBy_87 : decode cX6_isLostBy 87 = .ok (.iload_n 2, 1) := dk_28 (dk_at dksX6_isLostBy_3 16 rfl rfl)
theorem dX6_isLostBy_88 : decode cX6_isLostBy 88 = .ok (.invokevirtual 214, 3) := dk_182 0 214 (dk_at dksX6_isLostBy_3 17 rfl rfl)
theorem dX6_isLostBy_91 : decode cX6_isLostBy 91 = .ok (.iload_n 2, 1) := dk_28 (dk_at dksX6_isLostBy_3 20 rfl rfl)
theorem dX6_isLostBy_92 : decode cX6_isLostBy 92 = .ok (.ireturn, 1) := dk_172 (dk_at dksX6_isLostBy_3 21 rfl rfl)
abbrev cX6_come : ByteArray := prog_16_method_11_code
def yX6_come : MethodName := ⟨RX6, "come", "(LCircuitCells$Line;)V"⟩
def dkwX6_come_4 : List UInt8 := [181, 0, 70, 177]
abbrev dktX6_come_4 : List UInt8 := dkwX6_come_4 ++ []
def dkwX6_come_3 : List UInt8 := [180, 0, 18, 28, 42, 180, 0, 18, 29, 46, 79, 132, 2, 1, 132, 3, 1, 167, 255, 173, 42, 28]
abbrev dktX6_come_3 : List UInt8 := dkwX6_come_3 ++ dktX6_come_4
def dkwX6_come_2 : List UInt8 := [180, 0, 9, 28, 42, 180, 0, 9, 29, 46, 79, 42, 180, 0, 15, 28, 42, 180, 0, 15, 29, 46, 79, 42]
abbrev dktX6_come_2 : List UInt8 := dkwX6_come_2 ++ dktX6_come_3
def dkwX6_come_1 : List UInt8 := [163, 0, 23, 42, 43, 42, 180, 0, 9, 29, 46, 42, 180, 0, 18, 29, 46, 182, 1, 4, 167, 0, 42, 42]
abbrev dktX6_come_1 : List UInt8 := dkwX6_come_1 ++ dktX6_come_2
def dkwX6_come_0 : List UInt8 := [3, 61, 3, 62, 29, 42, 180, 0, 70, 162, 0, 81, 42, 180, 0, 15, 29, 46, 42, 180, 0, 64]
abbrev dktX6_come_0 : List UInt8 := dkwX6_come_0 ++ dktX6_come_1
theorem dksX6_come_0 : cX6_come.data.toList.drop 0 = dktX6_come_0 := by decide +kernel
theorem dksX6_come_1 : cX6_come.data.toList.drop 22 = dktX6_come_1 := dk_seg dksX6_come_0 22 rfl rfl
theorem dksX6_come_2 : cX6_come.data.toList.drop 46 = dktX6_come_2 := dk_seg dksX6_come_1 24 rfl rfl
theorem dksX6_come_3 : cX6_come.data.toList.drop 70 = dktX6_come_3 := dk_seg dksX6_come_2 24 rfl rfl
theorem dksX6_come_4 : cX6_come.data.toList.drop 92 = dktX6_come_4 := dk_seg dksX6_come_3 22 rfl rfl
theorem dX6_come_0 : decode cX6_come 0 = .ok (.iconst 0, 1) := dk_3 (dk_at dksX6_come_0 0 rfl rfl)
theorem dX6_come_1 : decode cX6_come 1 = .ok (.istore_n 2, 1) := dk_61 (dk_at dksX6_come_0 1 rfl rfl)
theorem dX6_come_2 : decode cX6_come 2 = .ok (.iconst 0, 1) := dk_3 (dk_at dksX6_come_0 2 rfl rfl)
theorem dX6_come_3 : decode cX6_come 3 = .ok (.istore_n 3, 1) := dk_62 (dk_at dksX6_come_0 3 rfl rfl)
theorem dX6_come_4 : decode cX6_come 4 = .ok (.iload_n 3, 1) := dk_29 (dk_at dksX6_come_0 4 rfl rfl)
theorem dX6_come_5 : decode cX6_come 5 = .ok (.aload_n 0, 1) := dk_42 (dk_at dksX6_come_0 5 rfl rfl)
theorem dX6_come_6 : decode cX6_come 6 = .ok (.getfield 70, 3) := dk_180 0 70 (dk_at dksX6_come_0 6 rfl rfl)
theorem dX6_come_9 : decode cX6_come 9 = .ok (.if_icmp .ge 81, 3) := dk_162 0 81 (dk_at dksX6_come_0 9 rfl rfl)
theorem dX6_come_12 : decode cX6_come 12 = .ok (.aload_n 0, 1) := dk_42 (dk_at dksX6_come_0 12 rfl rfl)
theorem dX6_come_13 : decode cX6_come 13 = .ok (.getfield 15, 3) := dk_180 0 15 (dk_at dksX6_come_0 13 rfl rfl)
theorem dX6_come_16 : decode cX6_come 16 = .ok (.iload_n 3, 1) := dk_29 (dk_at dksX6_come_0 16 rfl rfl)
theorem dX6_come_17 : decode cX6_come 17 = .ok (.iaload, 1) := dk_46 (dk_at dksX6_come_0 17 rfl rfl)
theorem dX6_come_18 : decode cX6_come 18 = .ok (.aload_n 0, 1) := dk_42 (dk_at dksX6_come_0 18 rfl rfl)
theorem dX6_come_19 : decode cX6_come 19 = .ok (.getfield 64, 3) := dk_180 0 64 (dk_at dksX6_come_0 19 rfl rfl)
theorem dX6_come_22 : decode cX6_come 22 = .ok (.if_icmp .gt 23, 3) := dk_163 0 23 (dk_at dksX6_come_1 0 rfl rfl)
theorem dX6_come_25 : decode cX6_come 25 = .ok (.aload_n 0, 1) := dk_42 (dk_at dksX6_come_1 3 rfl rfl)
theorem dX6_come_26 : decode cX6_come 26 = .ok (.aload_n 1, 1) := dk_43 (dk_at dksX6_come_1 4 rfl rfl)
theorem dX6_come_27 : decode cX6_come 27 = .ok (.aload_n 0, 1) := dk_42 (dk_at dksX6_come_1 5 rfl rfl)
theorem dX6_come_28 : decode cX6_come 28 = .ok (.getfield 9, 3) := dk_180 0 9 (dk_at dksX6_come_1 6 rfl rfl)
theorem dX6_come_31 : decode cX6_come 31 = .ok (.iload_n 3, 1) := dk_29 (dk_at dksX6_come_1 9 rfl rfl)
theorem dX6_come_32 : decode cX6_come 32 = .ok (.iaload, 1) := dk_46 (dk_at dksX6_come_1 10 rfl rfl)
theorem dX6_come_33 : decode cX6_come 33 = .ok (.aload_n 0, 1) := dk_42 (dk_at dksX6_come_1 11 rfl rfl)
theorem dX6_come_34 : decode cX6_come 34 = .ok (.getfield 18, 3) := dk_180 0 18 (dk_at dksX6_come_1 12 rfl rfl)
theorem dX6_come_37 : decode cX6_come 37 = .ok (.iload_n 3, 1) := dk_29 (dk_at dksX6_come_1 15 rfl rfl)
theorem dX6_come_38 : decode cX6_come 38 = .ok (.iaload, 1) := dk_46 (dk_at dksX6_come_1 16 rfl rfl)
theorem dX6_come_39 : decode cX6_come 39 = .ok (.invokevirtual 260, 3) := dk_182 1 4 (dk_at dksX6_come_1 17 rfl rfl)
theorem dX6_come_42 : decode cX6_come 42 = .ok (.goto 42, 3) := dk_167 0 42 (dk_at dksX6_come_1 20 rfl rfl)
theorem dX6_come_45 : decode cX6_come 45 = .ok (.aload_n 0, 1) := dk_42 (dk_at dksX6_come_1 23 rfl rfl)
theorem dX6_come_46 : decode cX6_come 46 = .ok (.getfield 9, 3) := dk_180 0 9 (dk_at dksX6_come_2 0 rfl rfl)
theorem dX6_come_49 : decode cX6_come 49 = .ok (.iload_n 2, 1) := dk_28 (dk_at dksX6_come_2 3 rfl rfl)
theorem dX6_come_50 : decode cX6_come 50 = .ok (.aload_n 0, 1) := dk_42 (dk_at dksX6_come_2 4 rfl rfl)
theorem dX6_come_51 : decode cX6_come 51 = .ok (.getfield 9, 3) := dk_180 0 9 (dk_at dksX6_come_2 5 rfl rfl)
theorem dX6_come_54 : decode cX6_come 54 = .ok (.iload_n 3, 1) := dk_29 (dk_at dksX6_come_2 8 rfl rfl)
theorem dX6_come_55 : decode cX6_come 55 = .ok (.iaload, 1) := dk_46 (dk_at dksX6_come_2 9 rfl rfl)
theorem dX6_come_56 : decode cX6_come 56 = .ok (.iastore, 1) := dk_79 (dk_at dksX6_come_2 10 rfl rfl)
theorem dX6_come_57 : decode cX6_come 57 = .ok (.aload_n 0, 1) := dk_42 (dk_at dksX6_come_2 11 rfl rfl)
theorem dX6_come_58 : decode cX6_come 58 = .ok (.getfield 15, 3) := dk_180 0 15 (dk_at dksX6_come_2 12 rfl rfl)
theorem dX6_come_61 : decode cX6_come 61 = .ok (.iload_n 2, 1) := dk_28 (dk_at dksX6_come_2 15 rfl rfl)
theorem dX6_come_62 : decode cX6_come 62 = .ok (.aload_n 0, 1) := dk_42 (dk_at dksX6_come_2 16 rfl rfl)
theorem dX6_come_63 : decode cX6_come 63 = .ok (.getfield 15, 3) := dk_180 0 15 (dk_at dksX6_come_2 17 rfl rfl)
theorem dX6_come_66 : decode cX6_come 66 = .ok (.iload_n 3, 1) := dk_29 (dk_at dksX6_come_2 20 rfl rfl)
theorem dX6_come_67 : decode cX6_come 67 = .ok (.iaload, 1) := dk_46 (dk_at dksX6_come_2 21 rfl rfl)
theorem dX6_come_68 : decode cX6_come 68 = .ok (.iastore, 1) := dk_79 (dk_at dksX6_come_2 22 rfl rfl)
theorem dX6_come_69 : decode cX6_come 69 = .ok (.aload_n 0, 1) := dk_42 (dk_at dksX6_come_2 23 rfl rfl)
theorem dX6_come_70 : decode cX6_come 70 = .ok (.getfield 18, 3) := dk_180 0 18 (dk_at dksX6_come_3 0 rfl rfl)
theorem dX6_come_73 : decode cX6_come 73 = .ok (.iload_n 2, 1) := dk_28 (dk_at dksX6_come_3 3 rfl rfl)
theorem dX6_come_74 : decode cX6_come 74 = .ok (.aload_n 0, 1) := dk_42 (dk_at dksX6_come_3 4 rfl rfl)
theorem dX6_come_75 : decode cX6_come 75 = .ok (.getfield 18, 3) := dk_180 0 18 (dk_at dksX6_come_3 5 rfl rfl)
theorem dX6_come_78 : decode cX6_come 78 = .ok (.iload_n 3, 1) := dk_29 (dk_at dksX6_come_3 8 rfl rfl)
theorem dX6_come_79 : decode cX6_come 79 = .ok (.iaload, 1) := dk_46 (dk_at dksX6_come_3 9 rfl rfl)
theorem dX6_come_80 : decode cX6_come 80 = .ok (.iastore, 1) := dk_79 (dk_at dksX6_come_3 10 rfl rfl)
theorem dX6_come_81 : decode cX6_come 81 = .ok (.iinc 2 1, 3) := dk_132 2 1 (dk_at dksX6_come_3 11 rfl rfl)
theorem dX6_come_84 : decode cX6_come 84 = .ok (.iinc 3 1, 3) := dk_132 3 1 (dk_at dksX6_come_3 14 rfl rfl)
theorem dX6_come_87 : decode cX6_come 87 = .ok (.goto (-83), 3) := dk_167 255 173 (dk_at dksX6_come_3 17 rfl rfl)
theorem dX6_come_90 : decode cX6_come 90 = .ok (.aload_n 0, 1) := dk_42 (dk_at dksX6_come_3 20 rfl rfl)
theorem dX6_come_91 : decode cX6_come 91 = .ok (.iload_n 2, 1) := dk_28 (dk_at dksX6_come_3 21 rfl rfl)
theorem dX6_come_92 : decode cX6_come 92 = .ok (.putfield 70, 3) := dk_181 0 70 (dk_at dksX6_come_4 0 rfl rfl)
theorem dX6_come_95 : decode cX6_come 95 = .ok (.return_, 1) := dk_177 (dk_at dksX6_come_4 3 rfl rfl)
abbrev cX6_comes : ByteArray := prog_16_method_10_code
def yX6_comes : MethodName := ⟨RX6, "comes", "(LCircuitCells$Line;II)V"⟩
def dkwX6_comes_11 : List UInt8 := [181, 0, 100, 42, 29, 181, 0, 103, 177]
abbrev dktX6_comes_11 : List UInt8 := dkwX6_comes_11 ++ []
def dkwX6_comes_10 : List UInt8 := [100, 181, 0, 97, 42, 89, 180, 0, 100, 29, 42, 180, 0, 103, 100, 17, 1, 0, 96, 17, 1, 0, 112, 96]
abbrev dktX6_comes_10 : List UInt8 := dkwX6_comes_10 ++ dktX6_comes_11
def dkwX6_comes_9 : List UInt8 := [177, 42, 21, 5, 21, 6, 96, 181, 0, 106, 42, 42, 180, 0, 106, 42, 180, 0, 112, 43, 180, 0, 253, 108]
abbrev dktX6_comes_9 : List UInt8 := dkwX6_comes_9 ++ dktX6_comes_10
def dkwX6_comes_8 : List UInt8 := [21, 6, 96, 79, 42, 180, 0, 24, 21, 4, 28, 79, 21, 5, 21, 6, 96, 42, 180, 0, 106, 163, 0, 4]
abbrev dktX6_comes_8 : List UInt8 := dkwX6_comes_8 ++ dktX6_comes_9
def dkwX6_comes_7 : List UInt8 := [181, 1, 0, 21, 6, 155, 0, 10, 21, 6, 16, 16, 161, 0, 4, 177, 42, 180, 0, 21, 21, 4, 21, 5]
abbrev dktX6_comes_7 : List UInt8 := dkwX6_comes_7 ++ dktX6_comes_8
def dkwX6_comes_6 : List UInt8 := [180, 1, 0, 154, 0, 15, 21, 6, 155, 0, 10, 21, 6, 16, 16, 161, 0, 7, 4, 167, 0, 4, 3]
abbrev dktX6_comes_6 : List UInt8 := dkwX6_comes_6 ++ dktX6_comes_7
def dkwX6_comes_5 : List UInt8 := [167, 0, 20, 21, 6, 16, 16, 161, 0, 13, 42, 89, 180, 0, 49, 4, 96, 181, 0, 49, 42, 42]
abbrev dktX6_comes_5 : List UInt8 := dkwX6_comes_5 ++ dktX6_comes_6
def dkwX6_comes_4 : List UInt8 := [16, 32, 161, 0, 6, 132, 6, 192, 21, 6, 156, 0, 16, 42, 89, 180, 0, 52, 4, 96, 181, 0, 52]
abbrev dktX6_comes_4 : List UInt8 := dkwX6_comes_4 ++ dktX6_comes_5
def dkwX6_comes_3 : List UInt8 := [180, 0, 253, 108, 54, 5, 21, 4, 21, 5, 16, 64, 112, 100, 16, 64, 96, 16, 64, 112, 54, 6, 21, 6]
abbrev dktX6_comes_3 : List UInt8 := dkwX6_comes_3 ++ dktX6_comes_4
def dkwX6_comes_2 : List UInt8 := [181, 0, 106, 42, 29, 181, 0, 103, 42, 3, 181, 0, 100, 42, 3, 181, 0, 97, 42, 180, 0, 115, 43]
abbrev dktX6_comes_2 : List UInt8 := dkwX6_comes_2 ++ dktX6_comes_3
def dkwX6_comes_1 : List UInt8 := [21, 4, 104, 181, 0, 115, 42, 42, 180, 0, 115, 181, 0, 112, 42, 28, 181, 0, 109, 42, 21, 4]
abbrev dktX6_comes_1 : List UInt8 := dkwX6_comes_1 ++ dktX6_comes_2
def dkwX6_comes_0 : List UInt8 := [28, 16, 64, 112, 54, 4, 42, 180, 0, 67, 154, 0, 53, 42, 4, 181, 0, 67, 42, 43, 180, 0, 253]
abbrev dktX6_comes_0 : List UInt8 := dkwX6_comes_0 ++ dktX6_comes_1
theorem dksX6_comes_0 : cX6_comes.data.toList.drop 0 = dktX6_comes_0 := by decide +kernel
theorem dksX6_comes_1 : cX6_comes.data.toList.drop 23 = dktX6_comes_1 := dk_seg dksX6_comes_0 23 rfl rfl
theorem dksX6_comes_2 : cX6_comes.data.toList.drop 45 = dktX6_comes_2 := dk_seg dksX6_comes_1 22 rfl rfl
theorem dksX6_comes_3 : cX6_comes.data.toList.drop 68 = dktX6_comes_3 := dk_seg dksX6_comes_2 23 rfl rfl
theorem dksX6_comes_4 : cX6_comes.data.toList.drop 92 = dktX6_comes_4 := dk_seg dksX6_comes_3 24 rfl rfl
theorem dksX6_comes_5 : cX6_comes.data.toList.drop 115 = dktX6_comes_5 := dk_seg dksX6_comes_4 23 rfl rfl
theorem dksX6_comes_6 : cX6_comes.data.toList.drop 137 = dktX6_comes_6 := dk_seg dksX6_comes_5 22 rfl rfl
theorem dksX6_comes_7 : cX6_comes.data.toList.drop 160 = dktX6_comes_7 := dk_seg dksX6_comes_6 23 rfl rfl
theorem dksX6_comes_8 : cX6_comes.data.toList.drop 184 = dktX6_comes_8 := dk_seg dksX6_comes_7 24 rfl rfl
theorem dksX6_comes_9 : cX6_comes.data.toList.drop 208 = dktX6_comes_9 := dk_seg dksX6_comes_8 24 rfl rfl
theorem dksX6_comes_10 : cX6_comes.data.toList.drop 232 = dktX6_comes_10 := dk_seg dksX6_comes_9 24 rfl rfl
theorem dksX6_comes_11 : cX6_comes.data.toList.drop 256 = dktX6_comes_11 := dk_seg dksX6_comes_10 24 rfl rfl
theorem dX6_comes_0 : decode cX6_comes 0 = .ok (.iload_n 2, 1) := dk_28 (dk_at dksX6_comes_0 0 rfl rfl)
theorem dX6_comes_1 : decode cX6_comes 1 = .ok (.bipush 64, 2) := dk_16 64 (dk_at dksX6_comes_0 1 rfl rfl)
theorem dX6_comes_3 : decode cX6_comes 3 = .ok (.irem, 1) := dk_112 (dk_at dksX6_comes_0 3 rfl rfl)
theorem dX6_comes_4 : decode cX6_comes 4 = .ok (.istore 4, 2) := dk_54 4 (dk_at dksX6_comes_0 4 rfl rfl)
theorem dX6_comes_6 : decode cX6_comes 6 = .ok (.aload_n 0, 1) := dk_42 (dk_at dksX6_comes_0 6 rfl rfl)
theorem dX6_comes_7 : decode cX6_comes 7 = .ok (.getfield 67, 3) := dk_180 0 67 (dk_at dksX6_comes_0 7 rfl rfl)
theorem dX6_comes_10 : decode cX6_comes 10 = .ok (.ifCond .ne 53, 3) := dk_154 0 53 (dk_at dksX6_comes_0 10 rfl rfl)
theorem dX6_comes_13 : decode cX6_comes 13 = .ok (.aload_n 0, 1) := dk_42 (dk_at dksX6_comes_0 13 rfl rfl)
theorem dX6_comes_14 : decode cX6_comes 14 = .ok (.iconst 1, 1) := dk_4 (dk_at dksX6_comes_0 14 rfl rfl)
theorem dX6_comes_15 : decode cX6_comes 15 = .ok (.putfield 67, 3) := dk_181 0 67 (dk_at dksX6_comes_0 15 rfl rfl)
theorem dX6_comes_18 : decode cX6_comes 18 = .ok (.aload_n 0, 1) := dk_42 (dk_at dksX6_comes_0 18 rfl rfl)
theorem dX6_comes_19 : decode cX6_comes 19 = .ok (.aload_n 1, 1) := dk_43 (dk_at dksX6_comes_0 19 rfl rfl)
theorem dX6_comes_20 : decode cX6_comes 20 = .ok (.getfield 253, 3) := dk_180 0 253 (dk_at dksX6_comes_0 20 rfl rfl)
theorem dX6_comes_23 : decode cX6_comes 23 = .ok (.iload 4, 2) := dk_21 4 (dk_at dksX6_comes_1 0 rfl rfl)
theorem dX6_comes_25 : decode cX6_comes 25 = .ok (.imul, 1) := dk_104 (dk_at dksX6_comes_1 2 rfl rfl)
theorem dX6_comes_26 : decode cX6_comes 26 = .ok (.putfield 115, 3) := dk_181 0 115 (dk_at dksX6_comes_1 3 rfl rfl)
theorem dX6_comes_29 : decode cX6_comes 29 = .ok (.aload_n 0, 1) := dk_42 (dk_at dksX6_comes_1 6 rfl rfl)
theorem dX6_comes_30 : decode cX6_comes 30 = .ok (.aload_n 0, 1) := dk_42 (dk_at dksX6_comes_1 7 rfl rfl)
theorem dX6_comes_31 : decode cX6_comes 31 = .ok (.getfield 115, 3) := dk_180 0 115 (dk_at dksX6_comes_1 8 rfl rfl)
theorem dX6_comes_34 : decode cX6_comes 34 = .ok (.putfield 112, 3) := dk_181 0 112 (dk_at dksX6_comes_1 11 rfl rfl)
theorem dX6_comes_37 : decode cX6_comes 37 = .ok (.aload_n 0, 1) := dk_42 (dk_at dksX6_comes_1 14 rfl rfl)
theorem dX6_comes_38 : decode cX6_comes 38 = .ok (.iload_n 2, 1) := dk_28 (dk_at dksX6_comes_1 15 rfl rfl)
theorem dX6_comes_39 : decode cX6_comes 39 = .ok (.putfield 109, 3) := dk_181 0 109 (dk_at dksX6_comes_1 16 rfl rfl)
theorem dX6_comes_42 : decode cX6_comes 42 = .ok (.aload_n 0, 1) := dk_42 (dk_at dksX6_comes_1 19 rfl rfl)
theorem dX6_comes_43 : decode cX6_comes 43 = .ok (.iload 4, 2) := dk_21 4 (dk_at dksX6_comes_1 20 rfl rfl)
theorem dX6_comes_45 : decode cX6_comes 45 = .ok (.putfield 106, 3) := dk_181 0 106 (dk_at dksX6_comes_2 0 rfl rfl)
theorem dX6_comes_48 : decode cX6_comes 48 = .ok (.aload_n 0, 1) := dk_42 (dk_at dksX6_comes_2 3 rfl rfl)
theorem dX6_comes_49 : decode cX6_comes 49 = .ok (.iload_n 3, 1) := dk_29 (dk_at dksX6_comes_2 4 rfl rfl)
theorem dX6_comes_50 : decode cX6_comes 50 = .ok (.putfield 103, 3) := dk_181 0 103 (dk_at dksX6_comes_2 5 rfl rfl)
theorem dX6_comes_53 : decode cX6_comes 53 = .ok (.aload_n 0, 1) := dk_42 (dk_at dksX6_comes_2 8 rfl rfl)
theorem dX6_comes_54 : decode cX6_comes 54 = .ok (.iconst 0, 1) := dk_3 (dk_at dksX6_comes_2 9 rfl rfl)
theorem dX6_comes_55 : decode cX6_comes 55 = .ok (.putfield 100, 3) := dk_181 0 100 (dk_at dksX6_comes_2 10 rfl rfl)
theorem dX6_comes_58 : decode cX6_comes 58 = .ok (.aload_n 0, 1) := dk_42 (dk_at dksX6_comes_2 13 rfl rfl)
theorem dX6_comes_59 : decode cX6_comes 59 = .ok (.iconst 0, 1) := dk_3 (dk_at dksX6_comes_2 14 rfl rfl)
theorem dX6_comes_60 : decode cX6_comes 60 = .ok (.putfield 97, 3) := dk_181 0 97 (dk_at dksX6_comes_2 15 rfl rfl)
theorem dX6_comes_63 : decode cX6_comes 63 = .ok (.aload_n 0, 1) := dk_42 (dk_at dksX6_comes_2 18 rfl rfl)
theorem dX6_comes_64 : decode cX6_comes 64 = .ok (.getfield 115, 3) := dk_180 0 115 (dk_at dksX6_comes_2 19 rfl rfl)
theorem dX6_comes_67 : decode cX6_comes 67 = .ok (.aload_n 1, 1) := dk_43 (dk_at dksX6_comes_2 22 rfl rfl)
theorem dX6_comes_68 : decode cX6_comes 68 = .ok (.getfield 253, 3) := dk_180 0 253 (dk_at dksX6_comes_3 0 rfl rfl)
theorem dX6_comes_71 : decode cX6_comes 71 = .ok (.idiv, 1) := dk_108 (dk_at dksX6_comes_3 3 rfl rfl)
theorem dX6_comes_72 : decode cX6_comes 72 = .ok (.istore 5, 2) := dk_54 5 (dk_at dksX6_comes_3 4 rfl rfl)
theorem dX6_comes_74 : decode cX6_comes 74 = .ok (.iload 4, 2) := dk_21 4 (dk_at dksX6_comes_3 6 rfl rfl)
theorem dX6_comes_76 : decode cX6_comes 76 = .ok (.iload 5, 2) := dk_21 5 (dk_at dksX6_comes_3 8 rfl rfl)
theorem dX6_comes_78 : decode cX6_comes 78 = .ok (.bipush 64, 2) := dk_16 64 (dk_at dksX6_comes_3 10 rfl rfl)
theorem dX6_comes_80 : decode cX6_comes 80 = .ok (.irem, 1) := dk_112 (dk_at dksX6_comes_3 12 rfl rfl)
theorem dX6_comes_81 : decode cX6_comes 81 = .ok (.isub, 1) := dk_100 (dk_at dksX6_comes_3 13 rfl rfl)
theorem dX6_comes_82 : decode cX6_comes 82 = .ok (.bipush 64, 2) := dk_16 64 (dk_at dksX6_comes_3 14 rfl rfl)
theorem dX6_comes_84 : decode cX6_comes 84 = .ok (.iadd, 1) := dk_96 (dk_at dksX6_comes_3 16 rfl rfl)
theorem dX6_comes_85 : decode cX6_comes 85 = .ok (.bipush 64, 2) := dk_16 64 (dk_at dksX6_comes_3 17 rfl rfl)
theorem dX6_comes_87 : decode cX6_comes 87 = .ok (.irem, 1) := dk_112 (dk_at dksX6_comes_3 19 rfl rfl)
theorem dX6_comes_88 : decode cX6_comes 88 = .ok (.istore 6, 2) := dk_54 6 (dk_at dksX6_comes_3 20 rfl rfl)
theorem dX6_comes_90 : decode cX6_comes 90 = .ok (.iload 6, 2) := dk_21 6 (dk_at dksX6_comes_3 22 rfl rfl)
theorem dX6_comes_92 : decode cX6_comes 92 = .ok (.bipush 32, 2) := dk_16 32 (dk_at dksX6_comes_4 0 rfl rfl)
theorem dX6_comes_94 : decode cX6_comes 94 = .ok (.if_icmp .lt 6, 3) := dk_161 0 6 (dk_at dksX6_comes_4 2 rfl rfl)
theorem dX6_comes_97 : decode cX6_comes 97 = .ok (.iinc 6 (-64), 3) := dk_132 6 192 (dk_at dksX6_comes_4 5 rfl rfl)
theorem dX6_comes_100 : decode cX6_comes 100 = .ok (.iload 6, 2) := dk_21 6 (dk_at dksX6_comes_4 8 rfl rfl)
theorem dX6_comes_102 : decode cX6_comes 102 = .ok (.ifCond .ge 16, 3) := dk_156 0 16 (dk_at dksX6_comes_4 10 rfl rfl)
theorem dX6_comes_105 : decode cX6_comes 105 = .ok (.aload_n 0, 1) := dk_42 (dk_at dksX6_comes_4 13 rfl rfl)
theorem dX6_comes_106 : decode cX6_comes 106 = .ok (.dup, 1) := dk_89 (dk_at dksX6_comes_4 14 rfl rfl)
theorem dX6_comes_107 : decode cX6_comes 107 = .ok (.getfield 52, 3) := dk_180 0 52 (dk_at dksX6_comes_4 15 rfl rfl)
theorem dX6_comes_110 : decode cX6_comes 110 = .ok (.iconst 1, 1) := dk_4 (dk_at dksX6_comes_4 18 rfl rfl)
theorem dX6_comes_111 : decode cX6_comes 111 = .ok (.iadd, 1) := dk_96 (dk_at dksX6_comes_4 19 rfl rfl)
theorem dX6_comes_112 : decode cX6_comes 112 = .ok (.putfield 52, 3) := dk_181 0 52 (dk_at dksX6_comes_4 20 rfl rfl)
theorem dX6_comes_115 : decode cX6_comes 115 = .ok (.goto 20, 3) := dk_167 0 20 (dk_at dksX6_comes_5 0 rfl rfl)
theorem dX6_comes_118 : decode cX6_comes 118 = .ok (.iload 6, 2) := dk_21 6 (dk_at dksX6_comes_5 3 rfl rfl)
theorem dX6_comes_120 : decode cX6_comes 120 = .ok (.bipush 16, 2) := dk_16 16 (dk_at dksX6_comes_5 5 rfl rfl)
theorem dX6_comes_122 : decode cX6_comes 122 = .ok (.if_icmp .lt 13, 3) := dk_161 0 13 (dk_at dksX6_comes_5 7 rfl rfl)
theorem dX6_comes_125 : decode cX6_comes 125 = .ok (.aload_n 0, 1) := dk_42 (dk_at dksX6_comes_5 10 rfl rfl)
theorem dX6_comes_126 : decode cX6_comes 126 = .ok (.dup, 1) := dk_89 (dk_at dksX6_comes_5 11 rfl rfl)
theorem dX6_comes_127 : decode cX6_comes 127 = .ok (.getfield 49, 3) := dk_180 0 49 (dk_at dksX6_comes_5 12 rfl rfl)
theorem dX6_comes_130 : decode cX6_comes 130 = .ok (.iconst 1, 1) := dk_4 (dk_at dksX6_comes_5 15 rfl rfl)
theorem dX6_comes_131 : decode cX6_comes 131 = .ok (.iadd, 1) := dk_96 (dk_at dksX6_comes_5 16 rfl rfl)
theorem dX6_comes_132 : decode cX6_comes 132 = .ok (.putfield 49, 3) := dk_181 0 49 (dk_at dksX6_comes_5 17 rfl rfl)
theorem dX6_comes_135 : decode cX6_comes 135 = .ok (.aload_n 0, 1) := dk_42 (dk_at dksX6_comes_5 20 rfl rfl)
theorem dX6_comes_136 : decode cX6_comes 136 = .ok (.aload_n 0, 1) := dk_42 (dk_at dksX6_comes_5 21 rfl rfl)
theorem dX6_comes_137 : decode cX6_comes 137 = .ok (.getfield 256, 3) := dk_180 1 0 (dk_at dksX6_comes_6 0 rfl rfl)
theorem dX6_comes_140 : decode cX6_comes 140 = .ok (.ifCond .ne 15, 3) := dk_154 0 15 (dk_at dksX6_comes_6 3 rfl rfl)
theorem dX6_comes_143 : decode cX6_comes 143 = .ok (.iload 6, 2) := dk_21 6 (dk_at dksX6_comes_6 6 rfl rfl)
theorem dX6_comes_145 : decode cX6_comes 145 = .ok (.ifCond .lt 10, 3) := dk_155 0 10 (dk_at dksX6_comes_6 8 rfl rfl)
theorem dX6_comes_148 : decode cX6_comes 148 = .ok (.iload 6, 2) := dk_21 6 (dk_at dksX6_comes_6 11 rfl rfl)
theorem dX6_comes_150 : decode cX6_comes 150 = .ok (.bipush 16, 2) := dk_16 16 (dk_at dksX6_comes_6 13 rfl rfl)
theorem dX6_comes_152 : decode cX6_comes 152 = .ok (.if_icmp .lt 7, 3) := dk_161 0 7 (dk_at dksX6_comes_6 15 rfl rfl)
theorem dX6_comes_155 : decode cX6_comes 155 = .ok (.iconst 1, 1) := dk_4 (dk_at dksX6_comes_6 18 rfl rfl)
theorem dX6_comes_156 : decode cX6_comes 156 = .ok (.goto 4, 3) := dk_167 0 4 (dk_at dksX6_comes_6 19 rfl rfl)
theorem dX6_comes_159 : decode cX6_comes 159 = .ok (.iconst 0, 1) := dk_3 (dk_at dksX6_comes_6 22 rfl rfl)
theorem dX6_comes_160 : decode cX6_comes 160 = .ok (.putfield 256, 3) := dk_181 1 0 (dk_at dksX6_comes_7 0 rfl rfl)
theorem dX6_comes_163 : decode cX6_comes 163 = .ok (.iload 6, 2) := dk_21 6 (dk_at dksX6_comes_7 3 rfl rfl)
theorem dX6_comes_165 : decode cX6_comes 165 = .ok (.ifCond .lt 10, 3) := dk_155 0 10 (dk_at dksX6_comes_7 5 rfl rfl)
theorem dX6_comes_168 : decode cX6_comes 168 = .ok (.iload 6, 2) := dk_21 6 (dk_at dksX6_comes_7 8 rfl rfl)
theorem dX6_comes_170 : decode cX6_comes 170 = .ok (.bipush 16, 2) := dk_16 16 (dk_at dksX6_comes_7 10 rfl rfl)
theorem dX6_comes_172 : decode cX6_comes 172 = .ok (.if_icmp .lt 4, 3) := dk_161 0 4 (dk_at dksX6_comes_7 12 rfl rfl)
theorem dX6_comes_175 : decode cX6_comes 175 = .ok (.return_, 1) := dk_177 (dk_at dksX6_comes_7 15 rfl rfl)
theorem dX6_comes_176 : decode cX6_comes 176 = .ok (.aload_n 0, 1) := dk_42 (dk_at dksX6_comes_7 16 rfl rfl)
theorem dX6_comes_177 : decode cX6_comes 177 = .ok (.getfield 21, 3) := dk_180 0 21 (dk_at dksX6_comes_7 17 rfl rfl)
theorem dX6_comes_180 : decode cX6_comes 180 = .ok (.iload 4, 2) := dk_21 4 (dk_at dksX6_comes_7 20 rfl rfl)
theorem dX6_comes_182 : decode cX6_comes 182 = .ok (.iload 5, 2) := dk_21 5 (dk_at dksX6_comes_7 22 rfl rfl)
theorem dX6_comes_184 : decode cX6_comes 184 = .ok (.iload 6, 2) := dk_21 6 (dk_at dksX6_comes_8 0 rfl rfl)
theorem dX6_comes_186 : decode cX6_comes 186 = .ok (.iadd, 1) := dk_96 (dk_at dksX6_comes_8 2 rfl rfl)
theorem dX6_comes_187 : decode cX6_comes 187 = .ok (.iastore, 1) := dk_79 (dk_at dksX6_comes_8 3 rfl rfl)
theorem dX6_comes_188 : decode cX6_comes 188 = .ok (.aload_n 0, 1) := dk_42 (dk_at dksX6_comes_8 4 rfl rfl)
theorem dX6_comes_189 : decode cX6_comes 189 = .ok (.getfield 24, 3) := dk_180 0 24 (dk_at dksX6_comes_8 5 rfl rfl)
theorem dX6_comes_192 : decode cX6_comes 192 = .ok (.iload 4, 2) := dk_21 4 (dk_at dksX6_comes_8 8 rfl rfl)
theorem dX6_comes_194 : decode cX6_comes 194 = .ok (.iload_n 2, 1) := dk_28 (dk_at dksX6_comes_8 10 rfl rfl)
theorem dX6_comes_195 : decode cX6_comes 195 = .ok (.iastore, 1) := dk_79 (dk_at dksX6_comes_8 11 rfl rfl)
theorem dX6_comes_196 : decode cX6_comes 196 = .ok (.iload 5, 2) := dk_21 5 (dk_at dksX6_comes_8 12 rfl rfl)
theorem dX6_comes_198 : decode cX6_comes 198 = .ok (.iload 6, 2) := dk_21 6 (dk_at dksX6_comes_8 14 rfl rfl)
theorem dX6_comes_200 : decode cX6_comes 200 = .ok (.iadd, 1) := dk_96 (dk_at dksX6_comes_8 16 rfl rfl)
theorem dX6_comes_201 : decode cX6_comes 201 = .ok (.aload_n 0, 1) := dk_42 (dk_at dksX6_comes_8 17 rfl rfl)
theorem dX6_comes_202 : decode cX6_comes 202 = .ok (.getfield 106, 3) := dk_180 0 106 (dk_at dksX6_comes_8 18 rfl rfl)
theorem dX6_comes_205 : decode cX6_comes 205 = .ok (.if_icmp .gt 4, 3) := dk_163 0 4 (dk_at dksX6_comes_8 21 rfl rfl)
theorem dX6_comes_208 : decode cX6_comes 208 = .ok (.return_, 1) := dk_177 (dk_at dksX6_comes_9 0 rfl rfl)
theorem dX6_comes_209 : decode cX6_comes 209 = .ok (.aload_n 0, 1) := dk_42 (dk_at dksX6_comes_9 1 rfl rfl)
theorem dX6_comes_210 : decode cX6_comes 210 = .ok (.iload 5, 2) := dk_21 5 (dk_at dksX6_comes_9 2 rfl rfl)
theorem dX6_comes_212 : decode cX6_comes 212 = .ok (.iload 6, 2) := dk_21 6 (dk_at dksX6_comes_9 4 rfl rfl)
theorem dX6_comes_214 : decode cX6_comes 214 = .ok (.iadd, 1) := dk_96 (dk_at dksX6_comes_9 6 rfl rfl)
theorem dX6_comes_215 : decode cX6_comes 215 = .ok (.putfield 106, 3) := dk_181 0 106 (dk_at dksX6_comes_9 7 rfl rfl)
theorem dX6_comes_218 : decode cX6_comes 218 = .ok (.aload_n 0, 1) := dk_42 (dk_at dksX6_comes_9 10 rfl rfl)
theorem dX6_comes_219 : decode cX6_comes 219 = .ok (.aload_n 0, 1) := dk_42 (dk_at dksX6_comes_9 11 rfl rfl)
theorem dX6_comes_220 : decode cX6_comes 220 = .ok (.getfield 106, 3) := dk_180 0 106 (dk_at dksX6_comes_9 12 rfl rfl)
theorem dX6_comes_223 : decode cX6_comes 223 = .ok (.aload_n 0, 1) := dk_42 (dk_at dksX6_comes_9 15 rfl rfl)
theorem dX6_comes_224 : decode cX6_comes 224 = .ok (.getfield 112, 3) := dk_180 0 112 (dk_at dksX6_comes_9 16 rfl rfl)
theorem dX6_comes_227 : decode cX6_comes 227 = .ok (.aload_n 1, 1) := dk_43 (dk_at dksX6_comes_9 19 rfl rfl)
theorem dX6_comes_228 : decode cX6_comes 228 = .ok (.getfield 253, 3) := dk_180 0 253 (dk_at dksX6_comes_9 20 rfl rfl)
theorem dX6_comes_231 : decode cX6_comes 231 = .ok (.idiv, 1) := dk_108 (dk_at dksX6_comes_9 23 rfl rfl)
theorem dX6_comes_232 : decode cX6_comes 232 = .ok (.isub, 1) := dk_100 (dk_at dksX6_comes_10 0 rfl rfl)
theorem dX6_comes_233 : decode cX6_comes 233 = .ok (.putfield 97, 3) := dk_181 0 97 (dk_at dksX6_comes_10 1 rfl rfl)
theorem dX6_comes_236 : decode cX6_comes 236 = .ok (.aload_n 0, 1) := dk_42 (dk_at dksX6_comes_10 4 rfl rfl)
theorem dX6_comes_237 : decode cX6_comes 237 = .ok (.dup, 1) := dk_89 (dk_at dksX6_comes_10 5 rfl rfl)
theorem dX6_comes_238 : decode cX6_comes 238 = .ok (.getfield 100, 3) := dk_180 0 100 (dk_at dksX6_comes_10 6 rfl rfl)
theorem dX6_comes_241 : decode cX6_comes 241 = .ok (.iload_n 3, 1) := dk_29 (dk_at dksX6_comes_10 9 rfl rfl)
theorem dX6_comes_242 : decode cX6_comes 242 = .ok (.aload_n 0, 1) := dk_42 (dk_at dksX6_comes_10 10 rfl rfl)
theorem dX6_comes_243 : decode cX6_comes 243 = .ok (.getfield 103, 3) := dk_180 0 103 (dk_at dksX6_comes_10 11 rfl rfl)
theorem dX6_comes_246 : decode cX6_comes 246 = .ok (.isub, 1) := dk_100 (dk_at dksX6_comes_10 14 rfl rfl)
theorem dX6_comes_247 : decode cX6_comes 247 = .ok (.sipush 256, 3) := dk_17 1 0 (dk_at dksX6_comes_10 15 rfl rfl)
theorem dX6_comes_250 : decode cX6_comes 250 = .ok (.iadd, 1) := dk_96 (dk_at dksX6_comes_10 18 rfl rfl)
theorem dX6_comes_251 : decode cX6_comes 251 = .ok (.sipush 256, 3) := dk_17 1 0 (dk_at dksX6_comes_10 19 rfl rfl)
theorem dX6_comes_254 : decode cX6_comes 254 = .ok (.irem, 1) := dk_112 (dk_at dksX6_comes_10 22 rfl rfl)
theorem dX6_comes_255 : decode cX6_comes 255 = .ok (.iadd, 1) := dk_96 (dk_at dksX6_comes_10 23 rfl rfl)
theorem dX6_comes_256 : decode cX6_comes 256 = .ok (.putfield 100, 3) := dk_181 0 100 (dk_at dksX6_comes_11 0 rfl rfl)
theorem dX6_comes_259 : decode cX6_comes 259 = .ok (.aload_n 0, 1) := dk_42 (dk_at dksX6_comes_11 3 rfl rfl)
theorem dX6_comes_260 : decode cX6_comes 260 = .ok (.iload_n 3, 1) := dk_29 (dk_at dksX6_comes_11 4 rfl rfl)
theorem dX6_comes_261 : decode cX6_comes 261 = .ok (.putfield 103, 3) := dk_181 0 103 (dk_at dksX6_comes_11 5 rfl rfl)
theorem dX6_comes_264 : decode cX6_comes 264 = .ok (.return_, 1) := dk_177 (dk_at dksX6_comes_11 8 rfl rfl)
abbrev cX6_steers : ByteArray := prog_16_method_13_code
def yX6_steers : MethodName := ⟨RX6, "steers", "(I)V"⟩
def dkwX6_steers_3 : List UInt8 := [17, 0, 128, 112, 42, 180, 0, 118, 79, 42, 89, 180, 0, 85, 4, 96, 181, 0, 85, 177]
abbrev dktX6_steers_3 : List UInt8 := dkwX6_steers_3 ++ []
def dkwX6_steers_2 : List UInt8 := [180, 0, 124, 96, 16, 16, 108, 184, 0, 197, 184, 0, 203, 181, 0, 121, 42, 180, 0, 30, 42, 180, 0, 85]
abbrev dktX6_steers_2 : List UInt8 := dkwX6_steers_2 ++ dktX6_steers_3
def dkwX6_steers_1 : List UInt8 := [96, 184, 0, 197, 184, 0, 203, 181, 0, 124, 42, 17, 255, 56, 17, 0, 200, 42, 180, 0, 146, 28, 104, 42]
abbrev dktX6_steers_1 : List UInt8 := dkwX6_steers_1 ++ dktX6_steers_2
def dkwX6_steers_0 : List UInt8 := [27, 42, 180, 0, 142, 100, 61, 42, 17, 243, 128, 17, 12, 128, 42, 180, 0, 124, 42, 180, 0, 150, 28, 104]
abbrev dktX6_steers_0 : List UInt8 := dkwX6_steers_0 ++ dktX6_steers_1
theorem dksX6_steers_0 : cX6_steers.data.toList.drop 0 = dktX6_steers_0 := by decide +kernel
theorem dksX6_steers_1 : cX6_steers.data.toList.drop 24 = dktX6_steers_1 := dk_seg dksX6_steers_0 24 rfl rfl
theorem dksX6_steers_2 : cX6_steers.data.toList.drop 48 = dktX6_steers_2 := dk_seg dksX6_steers_1 24 rfl rfl
theorem dksX6_steers_3 : cX6_steers.data.toList.drop 72 = dktX6_steers_3 := dk_seg dksX6_steers_2 24 rfl rfl
theorem dX6_steers_0 : decode cX6_steers 0 = .ok (.iload_n 1, 1) := dk_27 (dk_at dksX6_steers_0 0 rfl rfl)
theorem dX6_steers_1 : decode cX6_steers 1 = .ok (.aload_n 0, 1) := dk_42 (dk_at dksX6_steers_0 1 rfl rfl)
theorem dX6_steers_2 : decode cX6_steers 2 = .ok (.getfield 142, 3) := dk_180 0 142 (dk_at dksX6_steers_0 2 rfl rfl)
theorem dX6_steers_5 : decode cX6_steers 5 = .ok (.isub, 1) := dk_100 (dk_at dksX6_steers_0 5 rfl rfl)
theorem dX6_steers_6 : decode cX6_steers 6 = .ok (.istore_n 2, 1) := dk_61 (dk_at dksX6_steers_0 6 rfl rfl)
theorem dX6_steers_7 : decode cX6_steers 7 = .ok (.aload_n 0, 1) := dk_42 (dk_at dksX6_steers_0 7 rfl rfl)
theorem dX6_steers_8 : decode cX6_steers 8 = .ok (.sipush (-3200), 3) := dk_17 243 128 (dk_at dksX6_steers_0 8 rfl rfl)
theorem dX6_steers_11 : decode cX6_steers 11 = .ok (.sipush 3200, 3) := dk_17 12 128 (dk_at dksX6_steers_0 11 rfl rfl)
theorem dX6_steers_14 : decode cX6_steers 14 = .ok (.aload_n 0, 1) := dk_42 (dk_at dksX6_steers_0 14 rfl rfl)
theorem dX6_steers_15 : decode cX6_steers 15 = .ok (.getfield 124, 3) := dk_180 0 124 (dk_at dksX6_steers_0 15 rfl rfl)
theorem dX6_steers_18 : decode cX6_steers 18 = .ok (.aload_n 0, 1) := dk_42 (dk_at dksX6_steers_0 18 rfl rfl)
theorem dX6_steers_19 : decode cX6_steers 19 = .ok (.getfield 150, 3) := dk_180 0 150 (dk_at dksX6_steers_0 19 rfl rfl)
theorem dX6_steers_22 : decode cX6_steers 22 = .ok (.iload_n 2, 1) := dk_28 (dk_at dksX6_steers_0 22 rfl rfl)
theorem dX6_steers_23 : decode cX6_steers 23 = .ok (.imul, 1) := dk_104 (dk_at dksX6_steers_0 23 rfl rfl)
theorem dX6_steers_24 : decode cX6_steers 24 = .ok (.iadd, 1) := dk_96 (dk_at dksX6_steers_1 0 rfl rfl)
theorem dX6_steers_25 : decode cX6_steers 25 = .ok (.invokestatic 197, 3) := dk_184 0 197 (dk_at dksX6_steers_1 1 rfl rfl)
theorem dX6_steers_28 : decode cX6_steers 28 = .ok (.invokestatic 203, 3) := dk_184 0 203 (dk_at dksX6_steers_1 4 rfl rfl)
theorem dX6_steers_31 : decode cX6_steers 31 = .ok (.putfield 124, 3) := dk_181 0 124 (dk_at dksX6_steers_1 7 rfl rfl)
theorem dX6_steers_34 : decode cX6_steers 34 = .ok (.aload_n 0, 1) := dk_42 (dk_at dksX6_steers_1 10 rfl rfl)
theorem dX6_steers_35 : decode cX6_steers 35 = .ok (.sipush (-200), 3) := dk_17 255 56 (dk_at dksX6_steers_1 11 rfl rfl)
theorem dX6_steers_38 : decode cX6_steers 38 = .ok (.sipush 200, 3) := dk_17 0 200 (dk_at dksX6_steers_1 14 rfl rfl)
theorem dX6_steers_41 : decode cX6_steers 41 = .ok (.aload_n 0, 1) := dk_42 (dk_at dksX6_steers_1 17 rfl rfl)
theorem dX6_steers_42 : decode cX6_steers 42 = .ok (.getfield 146, 3) := dk_180 0 146 (dk_at dksX6_steers_1 18 rfl rfl)
theorem dX6_steers_45 : decode cX6_steers 45 = .ok (.iload_n 2, 1) := dk_28 (dk_at dksX6_steers_1 21 rfl rfl)
theorem dX6_steers_46 : decode cX6_steers 46 = .ok (.imul, 1) := dk_104 (dk_at dksX6_steers_1 22 rfl rfl)
theorem dX6_steers_47 : decode cX6_steers 47 = .ok (.aload_n 0, 1) := dk_42 (dk_at dksX6_steers_1 23 rfl rfl)
theorem dX6_steers_48 : decode cX6_steers 48 = .ok (.getfield 124, 3) := dk_180 0 124 (dk_at dksX6_steers_2 0 rfl rfl)
theorem dX6_steers_51 : decode cX6_steers 51 = .ok (.iadd, 1) := dk_96 (dk_at dksX6_steers_2 3 rfl rfl)
theorem dX6_steers_52 : decode cX6_steers 52 = .ok (.bipush 16, 2) := dk_16 16 (dk_at dksX6_steers_2 4 rfl rfl)
theorem dX6_steers_54 : decode cX6_steers 54 = .ok (.idiv, 1) := dk_108 (dk_at dksX6_steers_2 6 rfl rfl)
theorem dX6_steers_55 : decode cX6_steers 55 = .ok (.invokestatic 197, 3) := dk_184 0 197 (dk_at dksX6_steers_2 7 rfl rfl)
theorem dX6_steers_58 : decode cX6_steers 58 = .ok (.invokestatic 203, 3) := dk_184 0 203 (dk_at dksX6_steers_2 10 rfl rfl)
theorem dX6_steers_61 : decode cX6_steers 61 = .ok (.putfield 121, 3) := dk_181 0 121 (dk_at dksX6_steers_2 13 rfl rfl)
theorem dX6_steers_64 : decode cX6_steers 64 = .ok (.aload_n 0, 1) := dk_42 (dk_at dksX6_steers_2 16 rfl rfl)
theorem dX6_steers_65 : decode cX6_steers 65 = .ok (.getfield 30, 3) := dk_180 0 30 (dk_at dksX6_steers_2 17 rfl rfl)
theorem dX6_steers_68 : decode cX6_steers 68 = .ok (.aload_n 0, 1) := dk_42 (dk_at dksX6_steers_2 20 rfl rfl)
theorem dX6_steers_69 : decode cX6_steers 69 = .ok (.getfield 85, 3) := dk_180 0 85 (dk_at dksX6_steers_2 21 rfl rfl)
theorem dX6_steers_72 : decode cX6_steers 72 = .ok (.sipush 128, 3) := dk_17 0 128 (dk_at dksX6_steers_3 0 rfl rfl)
theorem dX6_steers_75 : decode cX6_steers 75 = .ok (.irem, 1) := dk_112 (dk_at dksX6_steers_3 3 rfl rfl)
theorem dX6_steers_76 : decode cX6_steers 76 = .ok (.aload_n 0, 1) := dk_42 (dk_at dksX6_steers_3 4 rfl rfl)
theorem dX6_steers_77 : decode cX6_steers 77 = .ok (.getfield 118, 3) := dk_180 0 118 (dk_at dksX6_steers_3 5 rfl rfl)
theorem dX6_steers_80 : decode cX6_steers 80 = .ok (.iastore, 1) := dk_79 (dk_at dksX6_steers_3 8 rfl rfl)
theorem dX6_steers_81 : decode cX6_steers 81 = .ok (.aload_n 0, 1) := dk_42 (dk_at dksX6_steers_3 9 rfl rfl)
theorem dX6_steers_82 : decode cX6_steers 82 = .ok (.dup, 1) := dk_89 (dk_at dksX6_steers_3 10 rfl rfl)
theorem dX6_steers_83 : decode cX6_steers 83 = .ok (.getfield 85, 3) := dk_180 0 85 (dk_at dksX6_steers_3 11 rfl rfl)
theorem dX6_steers_86 : decode cX6_steers 86 = .ok (.iconst 1, 1) := dk_4 (dk_at dksX6_steers_3 14 rfl rfl)
theorem dX6_steers_87 : decode cX6_steers 87 = .ok (.iadd, 1) := dk_96 (dk_at dksX6_steers_3 15 rfl rfl)
theorem dX6_steers_88 : decode cX6_steers 88 = .ok (.putfield 85, 3) := dk_181 0 85 (dk_at dksX6_steers_3 16 rfl rfl)
theorem dX6_steers_91 : decode cX6_steers 91 = .ok (.return_, 1) := dk_177 (dk_at dksX6_steers_3 19 rfl rfl)
abbrev cX6_plays : ByteArray := prog_16_method_15_code
def yX6_plays : MethodName := ⟨RX6, "plays", "(LCircuitCells$Line;LCircuitCells$Fill;)V"⟩
def dkwX6_plays_10 : List UInt8 := [180, 0, 91, 4, 96, 181, 0, 91, 42, 3, 181, 0, 67, 42, 182, 0, 151, 177]
abbrev dktX6_plays_10 : List UInt8 := dkwX6_plays_10 ++ []
def dkwX6_plays_9 : List UInt8 := [4, 96, 181, 0, 42, 42, 180, 0, 94, 16, 64, 162, 0, 4, 177, 42, 3, 181, 0, 94, 42, 89]
abbrev dktX6_plays_9 : List UInt8 := dkwX6_plays_9 ++ dktX6_plays_10
def dkwX6_plays_8 : List UInt8 := [3, 167, 0, 9, 42, 180, 0, 94, 4, 96, 181, 0, 94, 21, 5, 153, 0, 4, 177, 42, 89, 180, 0, 42]
abbrev dktX6_plays_8 : List UInt8 := dkwX6_plays_8 ++ dktX6_plays_9
def dkwX6_plays_7 : List UInt8 := [180, 0, 46, 4, 96, 181, 0, 46, 42, 89, 180, 0, 115, 4, 96, 181, 0, 115, 42, 21, 5, 153, 0, 7]
abbrev dktX6_plays_7 : List UInt8 := dkwX6_plays_7 ++ dktX6_plays_8
def dkwX6_plays_6 : List UInt8 := [180, 0, 46, 17, 0, 128, 112, 21, 5, 154, 0, 7, 4, 167, 0, 4, 3, 182, 1, 16, 42, 89]
abbrev dktX6_plays_6 : List UInt8 := dkwX6_plays_6 ++ dktX6_plays_7
def dkwX6_plays_5 : List UInt8 := [181, 0, 88, 42, 180, 0, 27, 42, 180, 0, 46, 17, 0, 128, 112, 21, 6, 79, 42, 180, 0, 38, 42]
abbrev dktX6_plays_5 : List UInt8 := dkwX6_plays_5 ++ dktX6_plays_6
def dkwX6_plays_4 : List UInt8 := [42, 180, 0, 115, 96, 42, 180, 0, 112, 100, 182, 1, 8, 159, 0, 13, 42, 89, 180, 0, 88, 4, 96]
abbrev dktX6_plays_4 : List UInt8 := dkwX6_plays_4 ++ dktX6_plays_5
def dkwX6_plays_3 : List UInt8 := [185, 1, 10, 2, 0, 54, 6, 21, 5, 153, 0, 41, 21, 6, 43, 42, 180, 0, 109, 43, 180, 0, 253, 104]
abbrev dktX6_plays_3 : List UInt8 := dkwX6_plays_3 ++ dktX6_plays_4
def dkwX6_plays_2 : List UInt8 := [180, 0, 253, 104, 42, 180, 0, 115, 43, 180, 0, 253, 112, 96, 182, 1, 8, 167, 0, 10, 44, 42]
abbrev dktX6_plays_2 : List UInt8 := dkwX6_plays_2 ++ dktX6_plays_3
def dkwX6_plays_1 : List UInt8 := [160, 0, 7, 4, 167, 0, 4, 3, 54, 5, 21, 5, 153, 0, 32, 43, 42, 180, 0, 24, 21, 4, 46, 43]
abbrev dktX6_plays_1 : List UInt8 := dkwX6_plays_1 ++ dktX6_plays_2
def dkwX6_plays_0 : List UInt8 := [42, 180, 0, 115, 43, 180, 0, 253, 108, 62, 29, 16, 64, 112, 54, 4, 42, 180, 0, 21, 21, 4, 46, 29]
abbrev dktX6_plays_0 : List UInt8 := dkwX6_plays_0 ++ dktX6_plays_1
theorem dksX6_plays_0 : cX6_plays.data.toList.drop 0 = dktX6_plays_0 := by decide +kernel
theorem dksX6_plays_1 : cX6_plays.data.toList.drop 24 = dktX6_plays_1 := dk_seg dksX6_plays_0 24 rfl rfl
theorem dksX6_plays_2 : cX6_plays.data.toList.drop 48 = dktX6_plays_2 := dk_seg dksX6_plays_1 24 rfl rfl
theorem dksX6_plays_3 : cX6_plays.data.toList.drop 70 = dktX6_plays_3 := dk_seg dksX6_plays_2 22 rfl rfl
theorem dksX6_plays_4 : cX6_plays.data.toList.drop 94 = dktX6_plays_4 := dk_seg dksX6_plays_3 24 rfl rfl
theorem dksX6_plays_5 : cX6_plays.data.toList.drop 117 = dktX6_plays_5 := dk_seg dksX6_plays_4 23 rfl rfl
theorem dksX6_plays_6 : cX6_plays.data.toList.drop 140 = dktX6_plays_6 := dk_seg dksX6_plays_5 23 rfl rfl
theorem dksX6_plays_7 : cX6_plays.data.toList.drop 162 = dktX6_plays_7 := dk_seg dksX6_plays_6 22 rfl rfl
theorem dksX6_plays_8 : cX6_plays.data.toList.drop 186 = dktX6_plays_8 := dk_seg dksX6_plays_7 24 rfl rfl
theorem dksX6_plays_9 : cX6_plays.data.toList.drop 210 = dktX6_plays_9 := dk_seg dksX6_plays_8 24 rfl rfl
theorem dksX6_plays_10 : cX6_plays.data.toList.drop 232 = dktX6_plays_10 := dk_seg dksX6_plays_9 22 rfl rfl
theorem dX6_plays_0 : decode cX6_plays 0 = .ok (.aload_n 0, 1) := dk_42 (dk_at dksX6_plays_0 0 rfl rfl)
theorem dX6_plays_1 : decode cX6_plays 1 = .ok (.getfield 115, 3) := dk_180 0 115 (dk_at dksX6_plays_0 1 rfl rfl)
theorem dX6_plays_4 : decode cX6_plays 4 = .ok (.aload_n 1, 1) := dk_43 (dk_at dksX6_plays_0 4 rfl rfl)
theorem dX6_plays_5 : decode cX6_plays 5 = .ok (.getfield 253, 3) := dk_180 0 253 (dk_at dksX6_plays_0 5 rfl rfl)
theorem dX6_plays_8 : decode cX6_plays 8 = .ok (.idiv, 1) := dk_108 (dk_at dksX6_plays_0 8 rfl rfl)
theorem dX6_plays_9 : decode cX6_plays 9 = .ok (.istore_n 3, 1) := dk_62 (dk_at dksX6_plays_0 9 rfl rfl)
theorem dX6_plays_10 : decode cX6_plays 10 = .ok (.iload_n 3, 1) := dk_29 (dk_at dksX6_plays_0 10 rfl rfl)
theorem dX6_plays_11 : decode cX6_plays 11 = .ok (.bipush 64, 2) := dk_16 64 (dk_at dksX6_plays_0 11 rfl rfl)
theorem dX6_plays_13 : decode cX6_plays 13 = .ok (.irem, 1) := dk_112 (dk_at dksX6_plays_0 13 rfl rfl)
theorem dX6_plays_14 : decode cX6_plays 14 = .ok (.istore 4, 2) := dk_54 4 (dk_at dksX6_plays_0 14 rfl rfl)
theorem dX6_plays_16 : decode cX6_plays 16 = .ok (.aload_n 0, 1) := dk_42 (dk_at dksX6_plays_0 16 rfl rfl)
theorem dX6_plays_17 : decode cX6_plays 17 = .ok (.getfield 21, 3) := dk_180 0 21 (dk_at dksX6_plays_0 17 rfl rfl)
theorem dX6_plays_20 : decode cX6_plays 20 = .ok (.iload 4, 2) := dk_21 4 (dk_at dksX6_plays_0 20 rfl rfl)
theorem dX6_plays_22 : decode cX6_plays 22 = .ok (.iaload, 1) := dk_46 (dk_at dksX6_plays_0 22 rfl rfl)
theorem dX6_plays_23 : decode cX6_plays 23 = .ok (.iload_n 3, 1) := dk_29 (dk_at dksX6_plays_0 23 rfl rfl)
theorem dX6_plays_24 : decode cX6_plays 24 = .ok (.if_icmp .ne 7, 3) := dk_160 0 7 (dk_at dksX6_plays_1 0 rfl rfl)
theorem dX6_plays_27 : decode cX6_plays 27 = .ok (.iconst 1, 1) := dk_4 (dk_at dksX6_plays_1 3 rfl rfl)
theorem dX6_plays_28 : decode cX6_plays 28 = .ok (.goto 4, 3) := dk_167 0 4 (dk_at dksX6_plays_1 4 rfl rfl)
theorem dX6_plays_31 : decode cX6_plays 31 = .ok (.iconst 0, 1) := dk_3 (dk_at dksX6_plays_1 7 rfl rfl)
theorem dX6_plays_32 : decode cX6_plays 32 = .ok (.istore 5, 2) := dk_54 5 (dk_at dksX6_plays_1 8 rfl rfl)
theorem dX6_plays_34 : decode cX6_plays 34 = .ok (.iload 5, 2) := dk_21 5 (dk_at dksX6_plays_1 10 rfl rfl)
theorem dX6_plays_36 : decode cX6_plays 36 = .ok (.ifCond .eq 32, 3) := dk_153 0 32 (dk_at dksX6_plays_1 12 rfl rfl)
theorem dX6_plays_39 : decode cX6_plays 39 = .ok (.aload_n 1, 1) := dk_43 (dk_at dksX6_plays_1 15 rfl rfl)
theorem dX6_plays_40 : decode cX6_plays 40 = .ok (.aload_n 0, 1) := dk_42 (dk_at dksX6_plays_1 16 rfl rfl)
theorem dX6_plays_41 : decode cX6_plays 41 = .ok (.getfield 24, 3) := dk_180 0 24 (dk_at dksX6_plays_1 17 rfl rfl)
theorem dX6_plays_44 : decode cX6_plays 44 = .ok (.iload 4, 2) := dk_21 4 (dk_at dksX6_plays_1 20 rfl rfl)
theorem dX6_plays_46 : decode cX6_plays 46 = .ok (.iaload, 1) := dk_46 (dk_at dksX6_plays_1 22 rfl rfl)
theorem dX6_plays_47 : decode cX6_plays 47 = .ok (.aload_n 1, 1) := dk_43 (dk_at dksX6_plays_1 23 rfl rfl)
theorem dX6_plays_48 : decode cX6_plays 48 = .ok (.getfield 253, 3) := dk_180 0 253 (dk_at dksX6_plays_2 0 rfl rfl)
theorem dX6_plays_51 : decode cX6_plays 51 = .ok (.imul, 1) := dk_104 (dk_at dksX6_plays_2 3 rfl rfl)
theorem dX6_plays_52 : decode cX6_plays 52 = .ok (.aload_n 0, 1) := dk_42 (dk_at dksX6_plays_2 4 rfl rfl)
theorem dX6_plays_53 : decode cX6_plays 53 = .ok (.getfield 115, 3) := dk_180 0 115 (dk_at dksX6_plays_2 5 rfl rfl)
theorem dX6_plays_56 : decode cX6_plays 56 = .ok (.aload_n 1, 1) := dk_43 (dk_at dksX6_plays_2 8 rfl rfl)
theorem dX6_plays_57 : decode cX6_plays 57 = .ok (.getfield 253, 3) := dk_180 0 253 (dk_at dksX6_plays_2 9 rfl rfl)
theorem dX6_plays_60 : decode cX6_plays 60 = .ok (.irem, 1) := dk_112 (dk_at dksX6_plays_2 12 rfl rfl)
theorem dX6_plays_61 : decode cX6_plays 61 = .ok (.iadd, 1) := dk_96 (dk_at dksX6_plays_2 13 rfl rfl)
theorem dX6_plays_62 : decode cX6_plays 62 = .ok (.invokevirtual 264, 3) := dk_182 1 8 (dk_at dksX6_plays_2 14 rfl rfl)
theorem dX6_plays_65 : decode cX6_plays 65 = .ok (.goto 10, 3) := dk_167 0 10 (dk_at dksX6_plays_2 17 rfl rfl)
theorem dX6_plays_68 : decode cX6_plays 68 = .ok (.aload_n 2, 1) := dk_44 (dk_at dksX6_plays_2 20 rfl rfl)
theorem dX6_plays_69 : decode cX6_plays 69 = .ok (.aload_n 0, 1) := dk_42 (dk_at dksX6_plays_2 21 rfl rfl)
theorem dX6_plays_70 : decode cX6_plays 70 = .ok (.invokeinterface 266 2, 5) := by decide +kernel
theorem dX6_plays_75 : decode cX6_plays 75 = .ok (.istore 6, 2) := dk_54 6 (dk_at dksX6_plays_3 5 rfl rfl)
theorem dX6_plays_77 : decode cX6_plays 77 = .ok (.iload 5, 2) := dk_21 5 (dk_at dksX6_plays_3 7 rfl rfl)
theorem dX6_plays_79 : decode cX6_plays 79 = .ok (.ifCond .eq 41, 3) := dk_153 0 41 (dk_at dksX6_plays_3 9 rfl rfl)
theorem dX6_plays_82 : decode cX6_plays 82 = .ok (.iload 6, 2) := dk_21 6 (dk_at dksX6_plays_3 12 rfl rfl)
theorem dX6_plays_84 : decode cX6_plays 84 = .ok (.aload_n 1, 1) := dk_43 (dk_at dksX6_plays_3 14 rfl rfl)
theorem dX6_plays_85 : decode cX6_plays 85 = .ok (.aload_n 0, 1) := dk_42 (dk_at dksX6_plays_3 15 rfl rfl)
theorem dX6_plays_86 : decode cX6_plays 86 = .ok (.getfield 109, 3) := dk_180 0 109 (dk_at dksX6_plays_3 16 rfl rfl)
theorem dX6_plays_89 : decode cX6_plays 89 = .ok (.aload_n 1, 1) := dk_43 (dk_at dksX6_plays_3 19 rfl rfl)
theorem dX6_plays_90 : decode cX6_plays 90 = .ok (.getfield 253, 3) := dk_180 0 253 (dk_at dksX6_plays_3 20 rfl rfl)
theorem dX6_plays_93 : decode cX6_plays 93 = .ok (.imul, 1) := dk_104 (dk_at dksX6_plays_3 23 rfl rfl)
theorem dX6_plays_94 : decode cX6_plays 94 = .ok (.aload_n 0, 1) := dk_42 (dk_at dksX6_plays_4 0 rfl rfl)
theorem dX6_plays_95 : decode cX6_plays 95 = .ok (.getfield 115, 3) := dk_180 0 115 (dk_at dksX6_plays_4 1 rfl rfl)
theorem dX6_plays_98 : decode cX6_plays 98 = .ok (.iadd, 1) := dk_96 (dk_at dksX6_plays_4 4 rfl rfl)
theorem dX6_plays_99 : decode cX6_plays 99 = .ok (.aload_n 0, 1) := dk_42 (dk_at dksX6_plays_4 5 rfl rfl)
theorem dX6_plays_100 : decode cX6_plays 100 = .ok (.getfield 112, 3) := dk_180 0 112 (dk_at dksX6_plays_4 6 rfl rfl)
theorem dX6_plays_103 : decode cX6_plays 103 = .ok (.isub, 1) := dk_100 (dk_at dksX6_plays_4 9 rfl rfl)
theorem dX6_plays_104 : decode cX6_plays 104 = .ok (.invokevirtual 264, 3) := dk_182 1 8 (dk_at dksX6_plays_4 10 rfl rfl)
theorem dX6_plays_107 : decode cX6_plays 107 = .ok (.if_icmp .eq 13, 3) := dk_159 0 13 (dk_at dksX6_plays_4 13 rfl rfl)
theorem dX6_plays_110 : decode cX6_plays 110 = .ok (.aload_n 0, 1) := dk_42 (dk_at dksX6_plays_4 16 rfl rfl)
theorem dX6_plays_111 : decode cX6_plays 111 = .ok (.dup, 1) := dk_89 (dk_at dksX6_plays_4 17 rfl rfl)
theorem dX6_plays_112 : decode cX6_plays 112 = .ok (.getfield 88, 3) := dk_180 0 88 (dk_at dksX6_plays_4 18 rfl rfl)
theorem dX6_plays_115 : decode cX6_plays 115 = .ok (.iconst 1, 1) := dk_4 (dk_at dksX6_plays_4 21 rfl rfl)
theorem dX6_plays_116 : decode cX6_plays 116 = .ok (.iadd, 1) := dk_96 (dk_at dksX6_plays_4 22 rfl rfl)
theorem dX6_plays_117 : decode cX6_plays 117 = .ok (.putfield 88, 3) := dk_181 0 88 (dk_at dksX6_plays_5 0 rfl rfl)
theorem dX6_plays_120 : decode cX6_plays 120 = .ok (.aload_n 0, 1) := dk_42 (dk_at dksX6_plays_5 3 rfl rfl)
theorem dX6_plays_121 : decode cX6_plays 121 = .ok (.getfield 27, 3) := dk_180 0 27 (dk_at dksX6_plays_5 4 rfl rfl)
theorem dX6_plays_124 : decode cX6_plays 124 = .ok (.aload_n 0, 1) := dk_42 (dk_at dksX6_plays_5 7 rfl rfl)
theorem dX6_plays_125 : decode cX6_plays 125 = .ok (.getfield 46, 3) := dk_180 0 46 (dk_at dksX6_plays_5 8 rfl rfl)
theorem dX6_plays_128 : decode cX6_plays 128 = .ok (.sipush 128, 3) := dk_17 0 128 (dk_at dksX6_plays_5 11 rfl rfl)
theorem dX6_plays_131 : decode cX6_plays 131 = .ok (.irem, 1) := dk_112 (dk_at dksX6_plays_5 14 rfl rfl)
theorem dX6_plays_132 : decode cX6_plays 132 = .ok (.iload 6, 2) := dk_21 6 (dk_at dksX6_plays_5 15 rfl rfl)
theorem dX6_plays_134 : decode cX6_plays 134 = .ok (.iastore, 1) := dk_79 (dk_at dksX6_plays_5 17 rfl rfl)
theorem dX6_plays_135 : decode cX6_plays 135 = .ok (.aload_n 0, 1) := dk_42 (dk_at dksX6_plays_5 18 rfl rfl)
theorem dX6_plays_136 : decode cX6_plays 136 = .ok (.getfield 38, 3) := dk_180 0 38 (dk_at dksX6_plays_5 19 rfl rfl)
theorem dX6_plays_139 : decode cX6_plays 139 = .ok (.aload_n 0, 1) := dk_42 (dk_at dksX6_plays_5 22 rfl rfl)
theorem dX6_plays_140 : decode cX6_plays 140 = .ok (.getfield 46, 3) := dk_180 0 46 (dk_at dksX6_plays_6 0 rfl rfl)
theorem dX6_plays_143 : decode cX6_plays 143 = .ok (.sipush 128, 3) := dk_17 0 128 (dk_at dksX6_plays_6 3 rfl rfl)
theorem dX6_plays_146 : decode cX6_plays 146 = .ok (.irem, 1) := dk_112 (dk_at dksX6_plays_6 6 rfl rfl)
theorem dX6_plays_147 : decode cX6_plays 147 = .ok (.iload 5, 2) := dk_21 5 (dk_at dksX6_plays_6 7 rfl rfl)
theorem dX6_plays_149 : decode cX6_plays 149 = .ok (.ifCond .ne 7, 3) := dk_154 0 7 (dk_at dksX6_plays_6 9 rfl rfl)
theorem dX6_plays_152 : decode cX6_plays 152 = .ok (.iconst 1, 1) := dk_4 (dk_at dksX6_plays_6 12 rfl rfl)
theorem dX6_plays_153 : decode cX6_plays 153 = .ok (.goto 4, 3) := dk_167 0 4 (dk_at dksX6_plays_6 13 rfl rfl)
theorem dX6_plays_156 : decode cX6_plays 156 = .ok (.iconst 0, 1) := dk_3 (dk_at dksX6_plays_6 16 rfl rfl)
theorem dX6_plays_157 : decode cX6_plays 157 = .ok (.invokevirtual 272, 3) := dk_182 1 16 (dk_at dksX6_plays_6 17 rfl rfl)
theorem dX6_plays_160 : decode cX6_plays 160 = .ok (.aload_n 0, 1) := dk_42 (dk_at dksX6_plays_6 20 rfl rfl)
theorem dX6_plays_161 : decode cX6_plays 161 = .ok (.dup, 1) := dk_89 (dk_at dksX6_plays_6 21 rfl rfl)
theorem dX6_plays_162 : decode cX6_plays 162 = .ok (.getfield 46, 3) := dk_180 0 46 (dk_at dksX6_plays_7 0 rfl rfl)
theorem dX6_plays_165 : decode cX6_plays 165 = .ok (.iconst 1, 1) := dk_4 (dk_at dksX6_plays_7 3 rfl rfl)
theorem dX6_plays_166 : decode cX6_plays 166 = .ok (.iadd, 1) := dk_96 (dk_at dksX6_plays_7 4 rfl rfl)
theorem dX6_plays_167 : decode cX6_plays 167 = .ok (.putfield 46, 3) := dk_181 0 46 (dk_at dksX6_plays_7 5 rfl rfl)
theorem dX6_plays_170 : decode cX6_plays 170 = .ok (.aload_n 0, 1) := dk_42 (dk_at dksX6_plays_7 8 rfl rfl)
theorem dX6_plays_171 : decode cX6_plays 171 = .ok (.dup, 1) := dk_89 (dk_at dksX6_plays_7 9 rfl rfl)
theorem dX6_plays_172 : decode cX6_plays 172 = .ok (.getfield 115, 3) := dk_180 0 115 (dk_at dksX6_plays_7 10 rfl rfl)
theorem dX6_plays_175 : decode cX6_plays 175 = .ok (.iconst 1, 1) := dk_4 (dk_at dksX6_plays_7 13 rfl rfl)
theorem dX6_plays_176 : decode cX6_plays 176 = .ok (.iadd, 1) := dk_96 (dk_at dksX6_plays_7 14 rfl rfl)
theorem dX6_plays_177 : decode cX6_plays 177 = .ok (.putfield 115, 3) := dk_181 0 115 (dk_at dksX6_plays_7 15 rfl rfl)
theorem dX6_plays_180 : decode cX6_plays 180 = .ok (.aload_n 0, 1) := dk_42 (dk_at dksX6_plays_7 18 rfl rfl)
theorem dX6_plays_181 : decode cX6_plays 181 = .ok (.iload 5, 2) := dk_21 5 (dk_at dksX6_plays_7 19 rfl rfl)
theorem dX6_plays_183 : decode cX6_plays 183 = .ok (.ifCond .eq 7, 3) := dk_153 0 7 (dk_at dksX6_plays_7 21 rfl rfl)
theorem dX6_plays_186 : decode cX6_plays 186 = .ok (.iconst 0, 1) := dk_3 (dk_at dksX6_plays_8 0 rfl rfl)
theorem dX6_plays_187 : decode cX6_plays 187 = .ok (.goto 9, 3) := dk_167 0 9 (dk_at dksX6_plays_8 1 rfl rfl)
theorem dX6_plays_190 : decode cX6_plays 190 = .ok (.aload_n 0, 1) := dk_42 (dk_at dksX6_plays_8 4 rfl rfl)
theorem dX6_plays_191 : decode cX6_plays 191 = .ok (.getfield 94, 3) := dk_180 0 94 (dk_at dksX6_plays_8 5 rfl rfl)
theorem dX6_plays_194 : decode cX6_plays 194 = .ok (.iconst 1, 1) := dk_4 (dk_at dksX6_plays_8 8 rfl rfl)
theorem dX6_plays_195 : decode cX6_plays 195 = .ok (.iadd, 1) := dk_96 (dk_at dksX6_plays_8 9 rfl rfl)
theorem dX6_plays_196 : decode cX6_plays 196 = .ok (.putfield 94, 3) := dk_181 0 94 (dk_at dksX6_plays_8 10 rfl rfl)
theorem dX6_plays_199 : decode cX6_plays 199 = .ok (.iload 5, 2) := dk_21 5 (dk_at dksX6_plays_8 13 rfl rfl)
theorem dX6_plays_201 : decode cX6_plays 201 = .ok (.ifCond .eq 4, 3) := dk_153 0 4 (dk_at dksX6_plays_8 15 rfl rfl)
theorem dX6_plays_204 : decode cX6_plays 204 = .ok (.return_, 1) := dk_177 (dk_at dksX6_plays_8 18 rfl rfl)
theorem dX6_plays_205 : decode cX6_plays 205 = .ok (.aload_n 0, 1) := dk_42 (dk_at dksX6_plays_8 19 rfl rfl)
theorem dX6_plays_206 : decode cX6_plays 206 = .ok (.dup, 1) := dk_89 (dk_at dksX6_plays_8 20 rfl rfl)
theorem dX6_plays_207 : decode cX6_plays 207 = .ok (.getfield 42, 3) := dk_180 0 42 (dk_at dksX6_plays_8 21 rfl rfl)
theorem dX6_plays_210 : decode cX6_plays 210 = .ok (.iconst 1, 1) := dk_4 (dk_at dksX6_plays_9 0 rfl rfl)
theorem dX6_plays_211 : decode cX6_plays 211 = .ok (.iadd, 1) := dk_96 (dk_at dksX6_plays_9 1 rfl rfl)
theorem dX6_plays_212 : decode cX6_plays 212 = .ok (.putfield 42, 3) := dk_181 0 42 (dk_at dksX6_plays_9 2 rfl rfl)
theorem dX6_plays_215 : decode cX6_plays 215 = .ok (.aload_n 0, 1) := dk_42 (dk_at dksX6_plays_9 5 rfl rfl)
theorem dX6_plays_216 : decode cX6_plays 216 = .ok (.getfield 94, 3) := dk_180 0 94 (dk_at dksX6_plays_9 6 rfl rfl)
theorem dX6_plays_219 : decode cX6_plays 219 = .ok (.bipush 64, 2) := dk_16 64 (dk_at dksX6_plays_9 9 rfl rfl)
theorem dX6_plays_221 : decode cX6_plays 221 = .ok (.if_icmp .ge 4, 3) := dk_162 0 4 (dk_at dksX6_plays_9 11 rfl rfl)
theorem dX6_plays_224 : decode cX6_plays 224 = .ok (.return_, 1) := dk_177 (dk_at dksX6_plays_9 14 rfl rfl)
theorem dX6_plays_225 : decode cX6_plays 225 = .ok (.aload_n 0, 1) := dk_42 (dk_at dksX6_plays_9 15 rfl rfl)
theorem dX6_plays_226 : decode cX6_plays 226 = .ok (.iconst 0, 1) := dk_3 (dk_at dksX6_plays_9 16 rfl rfl)
theorem dX6_plays_227 : decode cX6_plays 227 = .ok (.putfield 94, 3) := dk_181 0 94 (dk_at dksX6_plays_9 17 rfl rfl)
theorem dX6_plays_230 : decode cX6_plays 230 = .ok (.aload_n 0, 1) := dk_42 (dk_at dksX6_plays_9 20 rfl rfl)
theorem dX6_plays_231 : decode cX6_plays 231 = .ok (.dup, 1) := dk_89 (dk_at dksX6_plays_9 21 rfl rfl)
theorem dX6_plays_232 : decode cX6_plays 232 = .ok (.getfield 91, 3) := dk_180 0 91 (dk_at dksX6_plays_10 0 rfl rfl)
theorem dX6_plays_235 : decode cX6_plays 235 = .ok (.iconst 1, 1) := dk_4 (dk_at dksX6_plays_10 3 rfl rfl)
theorem dX6_plays_236 : decode cX6_plays 236 = .ok (.iadd, 1) := dk_96 (dk_at dksX6_plays_10 4 rfl rfl)
theorem dX6_plays_237 : decode cX6_plays 237 = .ok (.putfield 91, 3) := dk_181 0 91 (dk_at dksX6_plays_10 5 rfl rfl)
theorem dX6_plays_240 : decode cX6_plays 240 = .ok (.aload_n 0, 1) := dk_42 (dk_at dksX6_plays_10 8 rfl rfl)
theorem dX6_plays_241 : decode cX6_plays 241 = .ok (.iconst 0, 1) := dk_3 (dk_at dksX6_plays_10 9 rfl rfl)
theorem dX6_plays_242 : decode cX6_plays 242 = .ok (.putfield 67, 3) := dk_181 0 67 (dk_at dksX6_plays_10 10 rfl rfl)
theorem dX6_plays_245 : decode cX6_plays 245 = .ok (.aload_n 0, 1) := dk_42 (dk_at dksX6_plays_10 13 rfl rfl)
theorem dX6_plays_246 : decode cX6_plays 246 = .ok (.invokevirtual 151, 3) := dk_182 0 151 (dk_at dksX6_plays_10 14 rfl rfl)
theorem dX6_plays_249 : decode cX6_plays 249 = .ok (.return_, 1) := dk_177 (dk_at dksX6_plays_10 17 rfl rfl)
abbrev cX6_kept : ByteArray := prog_16_method_17_code
def yX6_kept : MethodName := ⟨RX6, "kept", "(I)I"⟩
def dkwX6_kept_0 : List UInt8 := [17, 0, 128, 27, 184, 0, 197, 172]
abbrev dktX6_kept_0 : List UInt8 := dkwX6_kept_0 ++ []
theorem dksX6_kept_0 : cX6_kept.data.toList.drop 0 = dktX6_kept_0 := by decide +kernel
theorem dX6_kept_0 : decode cX6_kept 0 = .ok (.sipush 128, 3) := dk_17 0 128 (dk_at dksX6_kept_0 0 rfl rfl)
theorem dX6_kept_3 : decode cX6_kept 3 = .ok (.iload_n 1, 1) := dk_27 (dk_at dksX6_kept_0 3 rfl rfl)
theorem dX6_kept_4 : decode cX6_kept 4 = .ok (.invokestatic 197, 3) := dk_184 0 197 (dk_at dksX6_kept_0 4 rfl rfl)
theorem dX6_kept_7 : decode cX6_kept 7 = .ok (.ireturn, 1) := dk_172 (dk_at dksX6_kept_0 7 rfl rfl)
abbrev cX6_lacks : ByteArray := prog_16_method_19_code
def yX6_lacks : MethodName := ⟨RX6, "lacks", "()Ljava/util/BitSet;"⟩
def dkwX6_lacks_2 : List UInt8 := [153, 0, 8, 43, 29, 182, 1, 46, 132, 3, 1, 167, 255, 221, 43, 176]
abbrev dktX6_lacks_2 : List UInt8 := dkwX6_lacks_2 ++ []
def dkwX6_lacks_1 : List UInt8 := [162, 0, 36, 42, 180, 0, 38, 42, 180, 0, 46, 28, 100, 29, 96, 17, 0, 128, 112, 182, 1, 42]
abbrev dktX6_lacks_1 : List UInt8 := dkwX6_lacks_1 ++ dktX6_lacks_2
def dkwX6_lacks_0 : List UInt8 := [187, 0, 33, 89, 17, 0, 128, 183, 0, 35, 76, 42, 42, 180, 0, 46, 182, 1, 39, 61, 3, 62, 29, 28]
abbrev dktX6_lacks_0 : List UInt8 := dkwX6_lacks_0 ++ dktX6_lacks_1
theorem dksX6_lacks_0 : cX6_lacks.data.toList.drop 0 = dktX6_lacks_0 := by decide +kernel
theorem dksX6_lacks_1 : cX6_lacks.data.toList.drop 24 = dktX6_lacks_1 := dk_seg dksX6_lacks_0 24 rfl rfl
theorem dksX6_lacks_2 : cX6_lacks.data.toList.drop 46 = dktX6_lacks_2 := dk_seg dksX6_lacks_1 22 rfl rfl
theorem dX6_lacks_0 : decode cX6_lacks 0 = .ok (.new 33, 3) := dk_187 0 33 (dk_at dksX6_lacks_0 0 rfl rfl)
theorem dX6_lacks_3 : decode cX6_lacks 3 = .ok (.dup, 1) := dk_89 (dk_at dksX6_lacks_0 3 rfl rfl)
theorem dX6_lacks_4 : decode cX6_lacks 4 = .ok (.sipush 128, 3) := dk_17 0 128 (dk_at dksX6_lacks_0 4 rfl rfl)
theorem dX6_lacks_7 : decode cX6_lacks 7 = .ok (.invokespecial 35, 3) := dk_183 0 35 (dk_at dksX6_lacks_0 7 rfl rfl)
theorem dX6_lacks_10 : decode cX6_lacks 10 = .ok (.astore_n 1, 1) := dk_76 (dk_at dksX6_lacks_0 10 rfl rfl)
theorem dX6_lacks_11 : decode cX6_lacks 11 = .ok (.aload_n 0, 1) := dk_42 (dk_at dksX6_lacks_0 11 rfl rfl)
theorem dX6_lacks_12 : decode cX6_lacks 12 = .ok (.aload_n 0, 1) := dk_42 (dk_at dksX6_lacks_0 12 rfl rfl)
theorem dX6_lacks_13 : decode cX6_lacks 13 = .ok (.getfield 46, 3) := dk_180 0 46 (dk_at dksX6_lacks_0 13 rfl rfl)
theorem dX6_lacks_16 : decode cX6_lacks 16 = .ok (.invokevirtual 295, 3) := dk_182 1 39 (dk_at dksX6_lacks_0 16 rfl rfl)
theorem dX6_lacks_19 : decode cX6_lacks 19 = .ok (.istore_n 2, 1) := dk_61 (dk_at dksX6_lacks_0 19 rfl rfl)
theorem dX6_lacks_20 : decode cX6_lacks 20 = .ok (.iconst 0, 1) := dk_3 (dk_at dksX6_lacks_0 20 rfl rfl)
theorem dX6_lacks_21 : decode cX6_lacks 21 = .ok (.istore_n 3, 1) := dk_62 (dk_at dksX6_lacks_0 21 rfl rfl)
theorem dX6_lacks_22 : decode cX6_lacks 22 = .ok (.iload_n 3, 1) := dk_29 (dk_at dksX6_lacks_0 22 rfl rfl)
theorem dX6_lacks_23 : decode cX6_lacks 23 = .ok (.iload_n 2, 1) := dk_28 (dk_at dksX6_lacks_0 23 rfl rfl)
theorem dX6_lacks_24 : decode cX6_lacks 24 = .ok (.if_icmp .ge 36, 3) := dk_162 0 36 (dk_at dksX6_lacks_1 0 rfl rfl)
theorem dX6_lacks_27 : decode cX6_lacks 27 = .ok (.aload_n 0, 1) := dk_42 (dk_at dksX6_lacks_1 3 rfl rfl)
theorem dX6_lacks_28 : decode cX6_lacks 28 = .ok (.getfield 38, 3) := dk_180 0 38 (dk_at dksX6_lacks_1 4 rfl rfl)
theorem dX6_lacks_31 : decode cX6_lacks 31 = .ok (.aload_n 0, 1) := dk_42 (dk_at dksX6_lacks_1 7 rfl rfl)
theorem dX6_lacks_32 : decode cX6_lacks 32 = .ok (.getfield 46, 3) := dk_180 0 46 (dk_at dksX6_lacks_1 8 rfl rfl)
theorem dX6_lacks_35 : decode cX6_lacks 35 = .ok (.iload_n 2, 1) := dk_28 (dk_at dksX6_lacks_1 11 rfl rfl)
theorem dX6_lacks_36 : decode cX6_lacks 36 = .ok (.isub, 1) := dk_100 (dk_at dksX6_lacks_1 12 rfl rfl)
theorem dX6_lacks_37 : decode cX6_lacks 37 = .ok (.iload_n 3, 1) := dk_29 (dk_at dksX6_lacks_1 13 rfl rfl)
theorem dX6_lacks_38 : decode cX6_lacks 38 = .ok (.iadd, 1) := dk_96 (dk_at dksX6_lacks_1 14 rfl rfl)
theorem dX6_lacks_39 : decode cX6_lacks 39 = .ok (.sipush 128, 3) := dk_17 0 128 (dk_at dksX6_lacks_1 15 rfl rfl)
theorem dX6_lacks_42 : decode cX6_lacks 42 = .ok (.irem, 1) := dk_112 (dk_at dksX6_lacks_1 18 rfl rfl)
theorem dX6_lacks_43 : decode cX6_lacks 43 = .ok (.invokevirtual 298, 3) := dk_182 1 42 (dk_at dksX6_lacks_1 19 rfl rfl)
theorem dX6_lacks_46 : decode cX6_lacks 46 = .ok (.ifCond .eq 8, 3) := dk_153 0 8 (dk_at dksX6_lacks_2 0 rfl rfl)
theorem dX6_lacks_49 : decode cX6_lacks 49 = .ok (.aload_n 1, 1) := dk_43 (dk_at dksX6_lacks_2 3 rfl rfl)
theorem dX6_lacks_50 : decode cX6_lacks 50 = .ok (.iload_n 3, 1) := dk_29 (dk_at dksX6_lacks_2 4 rfl rfl)
theorem dX6_lacks_51 : decode cX6_lacks 51 = .ok (.invokevirtual 302, 3) := dk_182 1 46 (dk_at dksX6_lacks_2 5 rfl rfl)
theorem dX6_lacks_54 : decode cX6_lacks 54 = .ok (.iinc 3 1, 3) := dk_132 3 1 (dk_at dksX6_lacks_2 8 rfl rfl)
theorem dX6_lacks_57 : decode cX6_lacks 57 = .ok (.goto (-35), 3) := dk_167 255 221 (dk_at dksX6_lacks_2 11 rfl rfl)
theorem dX6_lacks_60 : decode cX6_lacks 60 = .ok (.aload_n 1, 1) := dk_43 (dk_at dksX6_lacks_2 14 rfl rfl)
theorem dX6_lacks_61 : decode cX6_lacks 61 = .ok (.areturn, 1) := dk_176 (dk_at dksX6_lacks_2 15 rfl rfl)
abbrev cX6_sampleAt : ByteArray := prog_16_method_18_code
def yX6_sampleAt : MethodName := ⟨RX6, "sampleAt", "(I)I"⟩
def dkwX6_sampleAt_1 : List UInt8 := [172]
abbrev dktX6_sampleAt_1 : List UInt8 := dkwX6_sampleAt_1 ++ []
def dkwX6_sampleAt_0 : List UInt8 := [42, 180, 0, 30, 42, 180, 0, 85, 42, 42, 180, 0, 85, 182, 1, 39, 100, 27, 96, 17, 0, 128, 112, 46]
abbrev dktX6_sampleAt_0 : List UInt8 := dkwX6_sampleAt_0 ++ dktX6_sampleAt_1
theorem dksX6_sampleAt_0 : cX6_sampleAt.data.toList.drop 0 = dktX6_sampleAt_0 := by decide +kernel
theorem dksX6_sampleAt_1 : cX6_sampleAt.data.toList.drop 24 = dktX6_sampleAt_1 := dk_seg dksX6_sampleAt_0 24 rfl rfl
theorem dX6_sampleAt_0 : decode cX6_sampleAt 0 = .ok (.aload_n 0, 1) := dk_42 (dk_at dksX6_sampleAt_0 0 rfl rfl)
theorem dX6_sampleAt_1 : decode cX6_sampleAt 1 = .ok (.getfield 30, 3) := dk_180 0 30 (dk_at dksX6_sampleAt_0 1 rfl rfl)
theorem dX6_sampleAt_4 : decode cX6_sampleAt 4 = .ok (.aload_n 0, 1) := dk_42 (dk_at dksX6_sampleAt_0 4 rfl rfl)
theorem dX6_sampleAt_5 : decode cX6_sampleAt 5 = .ok (.getfield 85, 3) := dk_180 0 85 (dk_at dksX6_sampleAt_0 5 rfl rfl)
theorem dX6_sampleAt_8 : decode cX6_sampleAt 8 = .ok (.aload_n 0, 1) := dk_42 (dk_at dksX6_sampleAt_0 8 rfl rfl)
theorem dX6_sampleAt_9 : decode cX6_sampleAt 9 = .ok (.aload_n 0, 1) := dk_42 (dk_at dksX6_sampleAt_0 9 rfl rfl)
theorem dX6_sampleAt_10 : decode cX6_sampleAt 10 = .ok (.getfield 85, 3) := dk_180 0 85 (dk_at dksX6_sampleAt_0 10 rfl rfl)
theorem dX6_sampleAt_13 : decode cX6_sampleAt 13 = .ok (.invokevirtual 295, 3) := dk_182 1 39 (dk_at dksX6_sampleAt_0 13 rfl rfl)
theorem dX6_sampleAt_16 : decode cX6_sampleAt 16 = .ok (.isub, 1) := dk_100 (dk_at dksX6_sampleAt_0 16 rfl rfl)
theorem dX6_sampleAt_17 : decode cX6_sampleAt 17 = .ok (.iload_n 1, 1) := dk_27 (dk_at dksX6_sampleAt_0 17 rfl rfl)
theorem dX6_sampleAt_18 : decode cX6_sampleAt 18 = .ok (.iadd, 1) := dk_96 (dk_at dksX6_sampleAt_0 18 rfl rfl)
theorem dX6_sampleAt_19 : decode cX6_sampleAt 19 = .ok (.sipush 128, 3) := dk_17 0 128 (dk_at dksX6_sampleAt_0 19 rfl rfl)
theorem dX6_sampleAt_22 : decode cX6_sampleAt 22 = .ok (.irem, 1) := dk_112 (dk_at dksX6_sampleAt_0 22 rfl rfl)
theorem dX6_sampleAt_23 : decode cX6_sampleAt 23 = .ok (.iaload, 1) := dk_46 (dk_at dksX6_sampleAt_0 23 rfl rfl)
theorem dX6_sampleAt_24 : decode cX6_sampleAt 24 = .ok (.ireturn, 1) := dk_172 (dk_at dksX6_sampleAt_1 0 rfl rfl)
theorem q141 : (Jvm.Cond.initialized "CircuitCells$State") ∈ lw_all := lw_g (lw_at lw_m1 26 rfl) rfl
theorem q559 : (Jvm.Cond.fieldLinkNest "CircuitCells$State" (253 : Nat) "CircuitCells$Line" "size" "I" "CircuitCells") ∈ lw_tbl := lw_at lw_m2 204 rfl
theorem q563 : (Jvm.Cond.fieldLinkNest "CircuitCells$State" (139 : Nat) "CircuitCells$Line" "target" "I" "CircuitCells") ∈ lw_tbl := lw_at lw_m2 208 rfl
theorem q566 : (Jvm.Cond.fieldLinkNest "CircuitCells$State" (143 : Nat) "CircuitCells$Line" "gainP" "I" "CircuitCells") ∈ lw_tbl := lw_at lw_m2 211 rfl
theorem q569 : (Jvm.Cond.fieldLinkNest "CircuitCells$State" (147 : Nat) "CircuitCells$Line" "gainI" "I" "CircuitCells") ∈ lw_tbl := lw_at lw_m2 214 rfl
theorem q574 : (Jvm.Cond.fieldLinkNest "CircuitCells$State" (285 : Nat) "CircuitCells$Line" "every" "I" "CircuitCells") ∈ lw_tbl := lw_at lw_m2 219 rfl
theorem q575 : (Jvm.Cond.fieldLinkNest "CircuitCells$State" (133 : Nat) "CircuitCells$Line" "offset" "I" "CircuitCells") ∈ lw_tbl := lw_at lw_m2 220 rfl
theorem q583 : (Jvm.Cond.fieldLinkNest "CircuitCells$State" (174 : Nat) "CircuitCells$Line" "delay" "LCircuitCells$Expr;" "CircuitCells") ∈ lw_tbl := lw_at lw_m2 228 rfl
theorem q585 : (Jvm.Cond.fieldLinkNest "CircuitCells$State" (210 : Nat) "CircuitCells$Line" "lost" "LCircuitCells$Expr;" "CircuitCells") ∈ lw_tbl := lw_at lw_m2 230 rfl
theorem q588 : (Jvm.Cond.fieldLinkNest "CircuitCells$State" (187 : Nat) "CircuitCells$Line" "view" "LCircuitCells$View;" "CircuitCells") ∈ lw_tbl := lw_at lw_m2 233 rfl
theorem q619 : (Jvm.Cond.instantiable "CircuitCells$State" (46 : Nat)) ∈ lw_all := lw_g (lw_at lw_m3 24 rfl) rfl
theorem q621 : (Jvm.Cond.instanceMethod ({ cls := "CircuitCells$State", name := "<init>", desc := "()V" } : Jvm.MethodName)) ∈ lw_all := lw_g (lw_at lw_m3 26 rfl) rfl
theorem q622 : (Jvm.Cond.code ({ cls := "CircuitCells$State", name := "<init>", desc := "()V" } : Jvm.MethodName) prog_16_method_1_code (1 : Nat) (Option.none : Option Jvm.ClassFile.FieldType)) ∈ lw_all := lw_g (lw_at lw_m3 27 rfl) rfl
theorem q623 : (Jvm.Cond.methodLink "CircuitCells$State" (3 : Nat) ({ cls := "java/lang/Object", name := "<init>", desc := "()V" } : Jvm.MethodName)) ∈ lw_all := lw_g (lw_at lw_m3 28 rfl) rfl
theorem q624 : (Jvm.Cond.classLink "CircuitCells$State" (33 : Nat) "java/util/BitSet") ∈ lw_all := lw_g (lw_at lw_m3 29 rfl) rfl
theorem q626 : (Jvm.Cond.methodLink "CircuitCells$State" (35 : Nat) ({ cls := "java/util/BitSet", name := "<init>", desc := "(I)V" } : Jvm.MethodName)) ∈ lw_all := lw_g (lw_at lw_m3 31 rfl) rfl
theorem q648 : (Jvm.Cond.fieldLink "CircuitCells$State" (64 : Nat) "CircuitCells$State" "time" "I") ∈ lw_all := lw_g (lw_at lw_m3 53 rfl) rfl
theorem q650 : (Jvm.Cond.fieldLink "CircuitCells$State" (61 : Nat) "CircuitCells$State" "made" "I") ∈ lw_all := lw_g (lw_at lw_m3 55 rfl) rfl
theorem q652 : (Jvm.Cond.fieldLink "CircuitCells$State" (58 : Nat) "CircuitCells$State" "sent" "I") ∈ lw_all := lw_g (lw_at lw_m3 57 rfl) rfl
theorem q654 : (Jvm.Cond.fieldLink "CircuitCells$State" (55 : Nat) "CircuitCells$State" "lost" "I") ∈ lw_all := lw_g (lw_at lw_m3 59 rfl) rfl
theorem q656 : (Jvm.Cond.fieldLink "CircuitCells$State" (52 : Nat) "CircuitCells$State" "late" "I") ∈ lw_all := lw_g (lw_at lw_m3 61 rfl) rfl
theorem q658 : (Jvm.Cond.fieldLink "CircuitCells$State" (49 : Nat) "CircuitCells$State" "beyond" "I") ∈ lw_all := lw_g (lw_at lw_m3 63 rfl) rfl
theorem q660 : (Jvm.Cond.fieldLink "CircuitCells$State" (46 : Nat) "CircuitCells$State" "played" "I") ∈ lw_all := lw_g (lw_at lw_m3 65 rfl) rfl
theorem q662 : (Jvm.Cond.fieldLink "CircuitCells$State" (42 : Nat) "CircuitCells$State" "filled" "I") ∈ lw_all := lw_g (lw_at lw_m3 67 rfl) rfl
theorem q664 : (Jvm.Cond.fieldLink "CircuitCells$State" (67 : Nat) "CircuitCells$State" "phase" "I") ∈ lw_all := lw_g (lw_at lw_m3 69 rfl) rfl
theorem q666 : (Jvm.Cond.fieldLink "CircuitCells$State" (130 : Nat) "CircuitCells$State" "farPhase" "I") ∈ lw_all := lw_g (lw_at lw_m3 71 rfl) rfl
theorem q668 : (Jvm.Cond.fieldLink "CircuitCells$State" (127 : Nat) "CircuitCells$State" "nearPhase" "I") ∈ lw_all := lw_g (lw_at lw_m3 73 rfl) rfl
theorem q670 : (Jvm.Cond.fieldLink "CircuitCells$State" (124 : Nat) "CircuitCells$State" "integral" "I") ∈ lw_all := lw_g (lw_at lw_m3 75 rfl) rfl
theorem q672 : (Jvm.Cond.fieldLink "CircuitCells$State" (121 : Nat) "CircuitCells$State" "control" "I") ∈ lw_all := lw_g (lw_at lw_m3 77 rfl) rfl
theorem q674 : (Jvm.Cond.fieldLink "CircuitCells$State" (118 : Nat) "CircuitCells$State" "error" "I") ∈ lw_all := lw_g (lw_at lw_m3 79 rfl) rfl
theorem q676 : (Jvm.Cond.fieldLink "CircuitCells$State" (115 : Nat) "CircuitCells$State" "place" "I") ∈ lw_all := lw_g (lw_at lw_m3 81 rfl) rfl
theorem q678 : (Jvm.Cond.fieldLink "CircuitCells$State" (112 : Nat) "CircuitCells$State" "firstPlace" "I") ∈ lw_all := lw_g (lw_at lw_m3 83 rfl) rfl
theorem q679 : (Jvm.Cond.fieldLink "CircuitCells$State" (109 : Nat) "CircuitCells$State" "firstPacket" "I") ∈ lw_all := lw_g (lw_at lw_m3 84 rfl) rfl
theorem q680 : (Jvm.Cond.fieldLink "CircuitCells$State" (106 : Nat) "CircuitCells$State" "highest" "I") ∈ lw_all := lw_g (lw_at lw_m3 85 rfl) rfl
theorem q681 : (Jvm.Cond.fieldLink "CircuitCells$State" (103 : Nat) "CircuitCells$State" "stamp" "I") ∈ lw_all := lw_g (lw_at lw_m3 86 rfl) rfl
theorem q682 : (Jvm.Cond.fieldLink "CircuitCells$State" (100 : Nat) "CircuitCells$State" "age" "I") ∈ lw_all := lw_g (lw_at lw_m3 87 rfl) rfl
theorem q684 : (Jvm.Cond.fieldLink "CircuitCells$State" (97 : Nat) "CircuitCells$State" "spread" "I") ∈ lw_all := lw_g (lw_at lw_m3 89 rfl) rfl
theorem q686 : (Jvm.Cond.fieldLink "CircuitCells$State" (94 : Nat) "CircuitCells$State" "row" "I") ∈ lw_all := lw_g (lw_at lw_m3 91 rfl) rfl
theorem q687 : (Jvm.Cond.fieldLink "CircuitCells$State" (91 : Nat) "CircuitCells$State" "resets" "I") ∈ lw_all := lw_g (lw_at lw_m3 92 rfl) rfl
theorem q689 : (Jvm.Cond.fieldLink "CircuitCells$State" (88 : Nat) "CircuitCells$State" "wrong" "I") ∈ lw_all := lw_g (lw_at lw_m3 94 rfl) rfl
theorem q691 : (Jvm.Cond.fieldLink "CircuitCells$State" (85 : Nat) "CircuitCells$State" "samples" "I") ∈ lw_all := lw_g (lw_at lw_m3 96 rfl) rfl
theorem q693 : (Jvm.Cond.fieldLink "CircuitCells$State" (82 : Nat) "CircuitCells$State" "lastDelay" "I") ∈ lw_all := lw_g (lw_at lw_m3 98 rfl) rfl
theorem q694 : (Jvm.Cond.fieldLink "CircuitCells$State" (79 : Nat) "CircuitCells$State" "losses" "I") ∈ lw_all := lw_g (lw_at lw_m3 99 rfl) rfl
theorem q696 : (Jvm.Cond.fieldLink "CircuitCells$State" (76 : Nat) "CircuitCells$State" "stall" "I") ∈ lw_all := lw_g (lw_at lw_m3 101 rfl) rfl
theorem q698 : (Jvm.Cond.fieldLink "CircuitCells$State" (138 : Nat) "CircuitCells$State" "offset" "I") ∈ lw_all := lw_g (lw_at lw_m3 103 rfl) rfl
theorem q700 : (Jvm.Cond.fieldLink "CircuitCells$State" (73 : Nat) "CircuitCells$State" "fill" "I") ∈ lw_all := lw_g (lw_at lw_m3 105 rfl) rfl
theorem q702 : (Jvm.Cond.fieldLink "CircuitCells$State" (142 : Nat) "CircuitCells$State" "target" "I") ∈ lw_all := lw_g (lw_at lw_m3 107 rfl) rfl
theorem q704 : (Jvm.Cond.fieldLink "CircuitCells$State" (146 : Nat) "CircuitCells$State" "gainP" "I") ∈ lw_all := lw_g (lw_at lw_m3 109 rfl) rfl
theorem q706 : (Jvm.Cond.fieldLink "CircuitCells$State" (150 : Nat) "CircuitCells$State" "gainI" "I") ∈ lw_all := lw_g (lw_at lw_m3 111 rfl) rfl
theorem q708 : (Jvm.Cond.fieldLink "CircuitCells$State" (70 : Nat) "CircuitCells$State" "flying" "I") ∈ lw_all := lw_g (lw_at lw_m3 113 rfl) rfl
theorem q710 : (Jvm.Cond.fieldLink "CircuitCells$State" (9 : Nat) "CircuitCells$State" "packet" "[I") ∈ lw_all := lw_g (lw_at lw_m3 115 rfl) rfl
theorem q712 : (Jvm.Cond.fieldLink "CircuitCells$State" (15 : Nat) "CircuitCells$State" "due" "[I") ∈ lw_all := lw_g (lw_at lw_m3 117 rfl) rfl
theorem q714 : (Jvm.Cond.fieldLink "CircuitCells$State" (18 : Nat) "CircuitCells$State" "stamped" "[I") ∈ lw_all := lw_g (lw_at lw_m3 119 rfl) rfl
theorem q716 : (Jvm.Cond.fieldLink "CircuitCells$State" (21 : Nat) "CircuitCells$State" "spot" "[I") ∈ lw_all := lw_g (lw_at lw_m3 121 rfl) rfl
theorem q718 : (Jvm.Cond.fieldLink "CircuitCells$State" (24 : Nat) "CircuitCells$State" "lies" "[I") ∈ lw_all := lw_g (lw_at lw_m3 123 rfl) rfl
theorem q720 : (Jvm.Cond.fieldLink "CircuitCells$State" (27 : Nat) "CircuitCells$State" "octet" "[I") ∈ lw_all := lw_g (lw_at lw_m3 125 rfl) rfl
theorem q721 : (Jvm.Cond.fieldLink "CircuitCells$State" (30 : Nat) "CircuitCells$State" "sample" "[I") ∈ lw_all := lw_g (lw_at lw_m3 126 rfl) rfl
theorem q722 : (Jvm.Cond.fieldLink "CircuitCells$State" (38 : Nat) "CircuitCells$State" "lacking" "Ljava/util/BitSet;") ∈ lw_all := lw_g (lw_at lw_m3 127 rfl) rfl
theorem q723 : (Jvm.Cond.fieldLink "CircuitCells$State" (256 : Nat) "CircuitCells$State" "hasDropped" "Z") ∈ lw_all := lw_g (lw_at lw_m3 128 rfl) rfl
theorem q725 : (Jvm.Cond.fieldLink "CircuitCells$State" (171 : Nat) "CircuitCells$State" "stormy" "I") ∈ lw_all := lw_g (lw_at lw_m3 130 rfl) rfl
theorem q727 : (Jvm.Cond.fieldLink "CircuitCells$State" (218 : Nat) "CircuitCells$State" "storm" "I") ∈ lw_all := lw_g (lw_at lw_m3 132 rfl) rfl
theorem q729 : (Jvm.Cond.fieldLink "CircuitCells$State" (178 : Nat) "CircuitCells$State" "course" "LCircuitCells$Course;") ∈ lw_all := lw_g (lw_at lw_m3 134 rfl) rfl
theorem q731 : (Jvm.Cond.lays "CircuitCells$State" "CircuitCells$State" "time" "I") ∈ lw_all := lw_g (lw_at lw_m3 136 rfl) rfl
theorem q732 : (Jvm.Cond.soleField "CircuitCells$State" "time") ∈ lw_all := lw_g (lw_at lw_m3 137 rfl) rfl
theorem q733 : (Jvm.Cond.lays "CircuitCells$State" "CircuitCells$State" "made" "I") ∈ lw_all := lw_g (lw_at lw_m3 138 rfl) rfl
theorem q734 : (Jvm.Cond.soleField "CircuitCells$State" "made") ∈ lw_all := lw_g (lw_at lw_m3 139 rfl) rfl
theorem q735 : (Jvm.Cond.lays "CircuitCells$State" "CircuitCells$State" "sent" "I") ∈ lw_all := lw_g (lw_at lw_m3 140 rfl) rfl
theorem q736 : (Jvm.Cond.soleField "CircuitCells$State" "sent") ∈ lw_all := lw_g (lw_at lw_m3 141 rfl) rfl
theorem q737 : (Jvm.Cond.lays "CircuitCells$State" "CircuitCells$State" "lost" "I") ∈ lw_all := lw_g (lw_at lw_m3 142 rfl) rfl
theorem q738 : (Jvm.Cond.soleField "CircuitCells$State" "lost") ∈ lw_all := lw_g (lw_at lw_m3 143 rfl) rfl
theorem q739 : (Jvm.Cond.lays "CircuitCells$State" "CircuitCells$State" "late" "I") ∈ lw_all := lw_g (lw_at lw_m3 144 rfl) rfl
theorem q740 : (Jvm.Cond.soleField "CircuitCells$State" "late") ∈ lw_all := lw_g (lw_at lw_m3 145 rfl) rfl
theorem q741 : (Jvm.Cond.lays "CircuitCells$State" "CircuitCells$State" "beyond" "I") ∈ lw_all := lw_g (lw_at lw_m3 146 rfl) rfl
theorem q742 : (Jvm.Cond.soleField "CircuitCells$State" "beyond") ∈ lw_all := lw_g (lw_at lw_m3 147 rfl) rfl
theorem q743 : (Jvm.Cond.lays "CircuitCells$State" "CircuitCells$State" "played" "I") ∈ lw_all := lw_g (lw_at lw_m3 148 rfl) rfl
theorem q744 : (Jvm.Cond.soleField "CircuitCells$State" "played") ∈ lw_all := lw_g (lw_at lw_m3 149 rfl) rfl
theorem q745 : (Jvm.Cond.lays "CircuitCells$State" "CircuitCells$State" "filled" "I") ∈ lw_all := lw_g (lw_at lw_m3 150 rfl) rfl
theorem q746 : (Jvm.Cond.soleField "CircuitCells$State" "filled") ∈ lw_all := lw_g (lw_at lw_m3 151 rfl) rfl
theorem q747 : (Jvm.Cond.lays "CircuitCells$State" "CircuitCells$State" "phase" "I") ∈ lw_all := lw_g (lw_at lw_m3 152 rfl) rfl
theorem q748 : (Jvm.Cond.soleField "CircuitCells$State" "phase") ∈ lw_all := lw_g (lw_at lw_m3 153 rfl) rfl
theorem q749 : (Jvm.Cond.lays "CircuitCells$State" "CircuitCells$State" "farPhase" "I") ∈ lw_all := lw_g (lw_at lw_m3 154 rfl) rfl
theorem q750 : (Jvm.Cond.soleField "CircuitCells$State" "farPhase") ∈ lw_all := lw_g (lw_at lw_m3 155 rfl) rfl
theorem q751 : (Jvm.Cond.lays "CircuitCells$State" "CircuitCells$State" "nearPhase" "I") ∈ lw_all := lw_g (lw_at lw_m3 156 rfl) rfl
theorem q752 : (Jvm.Cond.soleField "CircuitCells$State" "nearPhase") ∈ lw_all := lw_g (lw_at lw_m3 157 rfl) rfl
theorem q753 : (Jvm.Cond.lays "CircuitCells$State" "CircuitCells$State" "integral" "I") ∈ lw_all := lw_g (lw_at lw_m3 158 rfl) rfl
theorem q754 : (Jvm.Cond.soleField "CircuitCells$State" "integral") ∈ lw_all := lw_g (lw_at lw_m3 159 rfl) rfl
theorem q755 : (Jvm.Cond.lays "CircuitCells$State" "CircuitCells$State" "control" "I") ∈ lw_all := lw_g (lw_at lw_m3 160 rfl) rfl
theorem q756 : (Jvm.Cond.soleField "CircuitCells$State" "control") ∈ lw_all := lw_g (lw_at lw_m3 161 rfl) rfl
theorem q757 : (Jvm.Cond.lays "CircuitCells$State" "CircuitCells$State" "error" "I") ∈ lw_all := lw_g (lw_at lw_m3 162 rfl) rfl
theorem q758 : (Jvm.Cond.soleField "CircuitCells$State" "error") ∈ lw_all := lw_g (lw_at lw_m3 163 rfl) rfl
theorem q759 : (Jvm.Cond.lays "CircuitCells$State" "CircuitCells$State" "place" "I") ∈ lw_all := lw_g (lw_at lw_m3 164 rfl) rfl
theorem q760 : (Jvm.Cond.soleField "CircuitCells$State" "place") ∈ lw_all := lw_g (lw_at lw_m3 165 rfl) rfl
theorem q761 : (Jvm.Cond.lays "CircuitCells$State" "CircuitCells$State" "firstPlace" "I") ∈ lw_all := lw_g (lw_at lw_m3 166 rfl) rfl
theorem q762 : (Jvm.Cond.soleField "CircuitCells$State" "firstPlace") ∈ lw_all := lw_g (lw_at lw_m3 167 rfl) rfl
theorem q763 : (Jvm.Cond.lays "CircuitCells$State" "CircuitCells$State" "firstPacket" "I") ∈ lw_all := lw_g (lw_at lw_m3 168 rfl) rfl
theorem q764 : (Jvm.Cond.soleField "CircuitCells$State" "firstPacket") ∈ lw_all := lw_g (lw_at lw_m3 169 rfl) rfl
theorem q765 : (Jvm.Cond.lays "CircuitCells$State" "CircuitCells$State" "highest" "I") ∈ lw_all := lw_g (lw_at lw_m3 170 rfl) rfl
theorem q766 : (Jvm.Cond.soleField "CircuitCells$State" "highest") ∈ lw_all := lw_g (lw_at lw_m3 171 rfl) rfl
theorem q767 : (Jvm.Cond.lays "CircuitCells$State" "CircuitCells$State" "stamp" "I") ∈ lw_all := lw_g (lw_at lw_m3 172 rfl) rfl
theorem q768 : (Jvm.Cond.soleField "CircuitCells$State" "stamp") ∈ lw_all := lw_g (lw_at lw_m3 173 rfl) rfl
theorem q769 : (Jvm.Cond.lays "CircuitCells$State" "CircuitCells$State" "age" "I") ∈ lw_all := lw_g (lw_at lw_m3 174 rfl) rfl
theorem q770 : (Jvm.Cond.soleField "CircuitCells$State" "age") ∈ lw_all := lw_g (lw_at lw_m3 175 rfl) rfl
theorem q771 : (Jvm.Cond.lays "CircuitCells$State" "CircuitCells$State" "spread" "I") ∈ lw_all := lw_g (lw_at lw_m3 176 rfl) rfl
theorem q772 : (Jvm.Cond.soleField "CircuitCells$State" "spread") ∈ lw_all := lw_g (lw_at lw_m3 177 rfl) rfl
theorem q773 : (Jvm.Cond.lays "CircuitCells$State" "CircuitCells$State" "row" "I") ∈ lw_all := lw_g (lw_at lw_m3 178 rfl) rfl
theorem q774 : (Jvm.Cond.soleField "CircuitCells$State" "row") ∈ lw_all := lw_g (lw_at lw_m3 179 rfl) rfl
theorem q775 : (Jvm.Cond.lays "CircuitCells$State" "CircuitCells$State" "resets" "I") ∈ lw_all := lw_g (lw_at lw_m3 180 rfl) rfl
theorem q776 : (Jvm.Cond.soleField "CircuitCells$State" "resets") ∈ lw_all := lw_g (lw_at lw_m3 181 rfl) rfl
theorem q777 : (Jvm.Cond.lays "CircuitCells$State" "CircuitCells$State" "wrong" "I") ∈ lw_all := lw_g (lw_at lw_m3 182 rfl) rfl
theorem q778 : (Jvm.Cond.soleField "CircuitCells$State" "wrong") ∈ lw_all := lw_g (lw_at lw_m3 183 rfl) rfl
theorem q779 : (Jvm.Cond.lays "CircuitCells$State" "CircuitCells$State" "samples" "I") ∈ lw_all := lw_g (lw_at lw_m3 184 rfl) rfl
theorem q780 : (Jvm.Cond.soleField "CircuitCells$State" "samples") ∈ lw_all := lw_g (lw_at lw_m3 185 rfl) rfl
theorem q781 : (Jvm.Cond.lays "CircuitCells$State" "CircuitCells$State" "lastDelay" "I") ∈ lw_all := lw_g (lw_at lw_m3 186 rfl) rfl
theorem q782 : (Jvm.Cond.soleField "CircuitCells$State" "lastDelay") ∈ lw_all := lw_g (lw_at lw_m3 187 rfl) rfl
theorem q783 : (Jvm.Cond.lays "CircuitCells$State" "CircuitCells$State" "losses" "I") ∈ lw_all := lw_g (lw_at lw_m3 188 rfl) rfl
theorem q784 : (Jvm.Cond.soleField "CircuitCells$State" "losses") ∈ lw_all := lw_g (lw_at lw_m3 189 rfl) rfl
theorem q785 : (Jvm.Cond.lays "CircuitCells$State" "CircuitCells$State" "stall" "I") ∈ lw_all := lw_g (lw_at lw_m3 190 rfl) rfl
theorem q786 : (Jvm.Cond.soleField "CircuitCells$State" "stall") ∈ lw_all := lw_g (lw_at lw_m3 191 rfl) rfl
theorem q787 : (Jvm.Cond.lays "CircuitCells$State" "CircuitCells$State" "offset" "I") ∈ lw_all := lw_g (lw_at lw_m3 192 rfl) rfl
theorem q788 : (Jvm.Cond.soleField "CircuitCells$State" "offset") ∈ lw_all := lw_g (lw_at lw_m3 193 rfl) rfl
theorem q789 : (Jvm.Cond.lays "CircuitCells$State" "CircuitCells$State" "fill" "I") ∈ lw_all := lw_g (lw_at lw_m3 194 rfl) rfl
theorem q790 : (Jvm.Cond.soleField "CircuitCells$State" "fill") ∈ lw_all := lw_g (lw_at lw_m3 195 rfl) rfl
theorem q791 : (Jvm.Cond.lays "CircuitCells$State" "CircuitCells$State" "target" "I") ∈ lw_all := lw_g (lw_at lw_m3 196 rfl) rfl
theorem q792 : (Jvm.Cond.soleField "CircuitCells$State" "target") ∈ lw_all := lw_g (lw_at lw_m3 197 rfl) rfl
theorem q793 : (Jvm.Cond.lays "CircuitCells$State" "CircuitCells$State" "gainP" "I") ∈ lw_all := lw_g (lw_at lw_m3 198 rfl) rfl
theorem q794 : (Jvm.Cond.soleField "CircuitCells$State" "gainP") ∈ lw_all := lw_g (lw_at lw_m3 199 rfl) rfl
theorem q795 : (Jvm.Cond.lays "CircuitCells$State" "CircuitCells$State" "gainI" "I") ∈ lw_all := lw_g (lw_at lw_m3 200 rfl) rfl
theorem q796 : (Jvm.Cond.soleField "CircuitCells$State" "gainI") ∈ lw_all := lw_g (lw_at lw_m3 201 rfl) rfl
theorem q797 : (Jvm.Cond.lays "CircuitCells$State" "CircuitCells$State" "flying" "I") ∈ lw_all := lw_g (lw_at lw_m3 202 rfl) rfl
theorem q798 : (Jvm.Cond.soleField "CircuitCells$State" "flying") ∈ lw_all := lw_g (lw_at lw_m3 203 rfl) rfl
theorem q799 : (Jvm.Cond.laysFinal "CircuitCells$State" "CircuitCells$State" "packet" "[I") ∈ lw_all := lw_g (lw_at lw_m3 204 rfl) rfl
theorem q800 : (Jvm.Cond.soleField "CircuitCells$State" "packet") ∈ lw_all := lw_g (lw_at lw_m3 205 rfl) rfl
theorem q801 : (Jvm.Cond.laysFinal "CircuitCells$State" "CircuitCells$State" "due" "[I") ∈ lw_all := lw_g (lw_at lw_m3 206 rfl) rfl
theorem q802 : (Jvm.Cond.soleField "CircuitCells$State" "due") ∈ lw_all := lw_g (lw_at lw_m3 207 rfl) rfl
theorem q803 : (Jvm.Cond.laysFinal "CircuitCells$State" "CircuitCells$State" "stamped" "[I") ∈ lw_all := lw_g (lw_at lw_m3 208 rfl) rfl
theorem q804 : (Jvm.Cond.soleField "CircuitCells$State" "stamped") ∈ lw_all := lw_g (lw_at lw_m3 209 rfl) rfl
theorem q805 : (Jvm.Cond.laysFinal "CircuitCells$State" "CircuitCells$State" "spot" "[I") ∈ lw_all := lw_g (lw_at lw_m3 210 rfl) rfl
theorem q806 : (Jvm.Cond.soleField "CircuitCells$State" "spot") ∈ lw_all := lw_g (lw_at lw_m3 211 rfl) rfl
theorem q807 : (Jvm.Cond.laysFinal "CircuitCells$State" "CircuitCells$State" "lies" "[I") ∈ lw_all := lw_g (lw_at lw_m3 212 rfl) rfl
theorem q808 : (Jvm.Cond.soleField "CircuitCells$State" "lies") ∈ lw_all := lw_g (lw_at lw_m3 213 rfl) rfl
theorem q809 : (Jvm.Cond.laysFinal "CircuitCells$State" "CircuitCells$State" "octet" "[I") ∈ lw_all := lw_g (lw_at lw_m3 214 rfl) rfl
theorem q810 : (Jvm.Cond.soleField "CircuitCells$State" "octet") ∈ lw_all := lw_g (lw_at lw_m3 215 rfl) rfl
theorem q811 : (Jvm.Cond.laysFinal "CircuitCells$State" "CircuitCells$State" "sample" "[I") ∈ lw_all := lw_g (lw_at lw_m3 216 rfl) rfl
theorem q812 : (Jvm.Cond.soleField "CircuitCells$State" "sample") ∈ lw_all := lw_g (lw_at lw_m3 217 rfl) rfl
theorem q813 : (Jvm.Cond.laysFinal "CircuitCells$State" "CircuitCells$State" "lacking" "Ljava/util/BitSet;") ∈ lw_all := lw_g (lw_at lw_m3 218 rfl) rfl
theorem q814 : (Jvm.Cond.soleField "CircuitCells$State" "lacking") ∈ lw_all := lw_g (lw_at lw_m3 219 rfl) rfl
theorem q815 : (Jvm.Cond.lays "CircuitCells$State" "CircuitCells$State" "hasDropped" "Z") ∈ lw_all := lw_g (lw_at lw_m3 220 rfl) rfl
theorem q816 : (Jvm.Cond.soleField "CircuitCells$State" "hasDropped") ∈ lw_all := lw_g (lw_at lw_m3 221 rfl) rfl
theorem q817 : (Jvm.Cond.lays "CircuitCells$State" "CircuitCells$State" "stormy" "I") ∈ lw_all := lw_g (lw_at lw_m3 222 rfl) rfl
theorem q818 : (Jvm.Cond.soleField "CircuitCells$State" "stormy") ∈ lw_all := lw_g (lw_at lw_m3 223 rfl) rfl
theorem q819 : (Jvm.Cond.lays "CircuitCells$State" "CircuitCells$State" "storm" "I") ∈ lw_all := lw_g (lw_at lw_m3 224 rfl) rfl
theorem q820 : (Jvm.Cond.soleField "CircuitCells$State" "storm") ∈ lw_all := lw_g (lw_at lw_m3 225 rfl) rfl
theorem q821 : (Jvm.Cond.lays "CircuitCells$State" "CircuitCells$State" "course" "LCircuitCells$Course;") ∈ lw_all := lw_g (lw_at lw_m3 226 rfl) rfl
theorem q822 : (Jvm.Cond.soleField "CircuitCells$State" "course") ∈ lw_all := lw_g (lw_at lw_m3 227 rfl) rfl
theorem q823 : (Jvm.Cond.superclass "CircuitCells$State" "java/lang/Object") ∈ lw_all := lw_g (lw_at lw_m3 228 rfl) rfl
theorem q863 : (Jvm.Cond.selects "CircuitCells$State" ({ cls := "java/lang/Object", name := "getClass", desc := "()Ljava/lang/Class;" } : Jvm.MethodName) ({ cls := "java/lang/Object", name := "getClass", desc := "()Ljava/lang/Class;" } : Jvm.MethodName)) ∈ lw_all := lw_g (lw_at lw_m4 28 rfl) rfl
theorem q962 : (Jvm.Cond.instanceMethod ({ cls := "CircuitCells$State", name := "back", desc := "(I)I" } : Jvm.MethodName)) ∈ lw_all := lw_g (lw_at lw_m4 127 rfl) rfl
theorem q963 : (Jvm.Cond.selects "CircuitCells$State" ({ cls := "CircuitCells$State", name := "back", desc := "(I)I" } : Jvm.MethodName) ({ cls := "CircuitCells$State", name := "back", desc := "(I)I" } : Jvm.MethodName)) ∈ lw_all := lw_g (lw_at lw_m4 128 rfl) rfl
theorem q964 : (Jvm.Cond.code ({ cls := "CircuitCells$State", name := "back", desc := "(I)I" } : Jvm.MethodName) prog_16_method_14_code (2 : Nat) (Option.some Jvm.ClassFile.FieldType.int)) ∈ lw_all := lw_g (lw_at lw_m4 129 rfl) rfl
theorem q986 : (Jvm.Cond.instanceMethod ({ cls := "CircuitCells$State", name := "level", desc := "(LCircuitCells$Line;)I" } : Jvm.MethodName)) ∈ lw_all := lw_g (lw_at lw_m4 151 rfl) rfl
theorem q987 : (Jvm.Cond.selects "CircuitCells$State" ({ cls := "CircuitCells$State", name := "level", desc := "(LCircuitCells$Line;)I" } : Jvm.MethodName) ({ cls := "CircuitCells$State", name := "level", desc := "(LCircuitCells$Line;)I" } : Jvm.MethodName)) ∈ lw_all := lw_g (lw_at lw_m4 152 rfl) rfl
theorem q988 : (Jvm.Cond.code ({ cls := "CircuitCells$State", name := "level", desc := "(LCircuitCells$Line;)I" } : Jvm.MethodName) prog_16_method_12_code (4 : Nat) (Option.some Jvm.ClassFile.FieldType.int)) ∈ lw_all := lw_g (lw_at lw_m4 153 rfl) rfl
theorem q989 : (Jvm.Cond.methodLink "CircuitCells$State" (203 : Nat) ({ cls := "java/lang/Math", name := "max", desc := "(II)I" } : Jvm.MethodName)) ∈ lw_all := lw_g (lw_at lw_m4 154 rfl) rfl
theorem q1010 : (Jvm.Cond.instanceMethod ({ cls := "CircuitCells$State", name := "begins", desc := "(LCircuitCells$Line;)V" } : Jvm.MethodName)) ∈ lw_all := lw_g (lw_at lw_m4 175 rfl) rfl
theorem q1011 : (Jvm.Cond.selects "CircuitCells$State" ({ cls := "CircuitCells$State", name := "begins", desc := "(LCircuitCells$Line;)V" } : Jvm.MethodName) ({ cls := "CircuitCells$State", name := "begins", desc := "(LCircuitCells$Line;)V" } : Jvm.MethodName)) ∈ lw_all := lw_g (lw_at lw_m4 176 rfl) rfl
theorem q1012 : (Jvm.Cond.code ({ cls := "CircuitCells$State", name := "begins", desc := "(LCircuitCells$Line;)V" } : Jvm.MethodName) prog_16_method_2_code (2 : Nat) (Option.none : Option Jvm.ClassFile.FieldType)) ∈ lw_all := lw_g (lw_at lw_m4 177 rfl) rfl
theorem q1013 : (Jvm.Cond.methodLink "CircuitCells$State" (151 : Nat) ({ cls := "CircuitCells$State", name := "empties", desc := "()V" } : Jvm.MethodName)) ∈ lw_all := lw_g (lw_at lw_m4 178 rfl) rfl
theorem q1014 : (Jvm.Cond.privateMethod ({ cls := "CircuitCells$State", name := "empties", desc := "()V" } : Jvm.MethodName)) ∈ lw_tbl := lw_at lw_m4 179 rfl
theorem q1015 : (Jvm.Cond.instanceMethod ({ cls := "CircuitCells$State", name := "empties", desc := "()V" } : Jvm.MethodName)) ∈ lw_all := lw_g (lw_at lw_m4 180 rfl) rfl
theorem q1016 : (Jvm.Cond.code ({ cls := "CircuitCells$State", name := "empties", desc := "()V" } : Jvm.MethodName) prog_16_method_3_code (2 : Nat) (Option.none : Option Jvm.ClassFile.FieldType)) ∈ lw_all := lw_g (lw_at lw_m4 181 rfl) rfl
theorem q1120 : (Jvm.Cond.instanceMethod ({ cls := "CircuitCells$State", name := "like", desc := "(LCircuitCells$State;)V" } : Jvm.MethodName)) ∈ lw_all := lw_g (lw_at lw_m5 45 rfl) rfl
theorem q1121 : (Jvm.Cond.selects "CircuitCells$State" ({ cls := "CircuitCells$State", name := "like", desc := "(LCircuitCells$State;)V" } : Jvm.MethodName) ({ cls := "CircuitCells$State", name := "like", desc := "(LCircuitCells$State;)V" } : Jvm.MethodName)) ∈ lw_all := lw_g (lw_at lw_m5 46 rfl) rfl
theorem q1122 : (Jvm.Cond.code ({ cls := "CircuitCells$State", name := "like", desc := "(LCircuitCells$State;)V" } : Jvm.MethodName) prog_16_method_5_code (2 : Nat) (Option.none : Option Jvm.ClassFile.FieldType)) ∈ lw_all := lw_g (lw_at lw_m5 47 rfl) rfl
theorem q1123 : (Jvm.Cond.methodLink "CircuitCells$State" (160 : Nat) ({ cls := "CircuitCells$State", name := "copies", desc := "([I[I)V" } : Jvm.MethodName)) ∈ lw_all := lw_g (lw_at lw_m5 48 rfl) rfl
theorem q1124 : (Jvm.Cond.static ({ cls := "CircuitCells$State", name := "copies", desc := "([I[I)V" } : Jvm.MethodName)) ∈ lw_all := lw_g (lw_at lw_m5 49 rfl) rfl
theorem q1125 : (Jvm.Cond.code ({ cls := "CircuitCells$State", name := "copies", desc := "([I[I)V" } : Jvm.MethodName) prog_16_method_4_code (2 : Nat) (Option.none : Option Jvm.ClassFile.FieldType)) ∈ lw_all := lw_g (lw_at lw_m5 50 rfl) rfl
theorem q1126 : (Jvm.Cond.methodLink "CircuitCells$State" (154 : Nat) ({ cls := "java/lang/System", name := "arraycopy", desc := "(Ljava/lang/Object;ILjava/lang/Object;II)V" } : Jvm.MethodName)) ∈ lw_all := lw_g (lw_at lw_m5 51 rfl) rfl
theorem q1127 : (Jvm.Cond.methodLink "CircuitCells$State" (164 : Nat) ({ cls := "java/util/BitSet", name := "clear", desc := "()V" } : Jvm.MethodName)) ∈ lw_all := lw_g (lw_at lw_m5 52 rfl) rfl
theorem q1131 : (Jvm.Cond.methodLink "CircuitCells$State" (167 : Nat) ({ cls := "java/util/BitSet", name := "or", desc := "(Ljava/util/BitSet;)V" } : Jvm.MethodName)) ∈ lw_all := lw_g (lw_at lw_m5 56 rfl) rfl
theorem q1166 : (Jvm.Cond.instanceMethod ({ cls := "CircuitCells$State", name := "goes", desc := "(LCircuitCells$Line;LCircuitCells$Fill;)V" } : Jvm.MethodName)) ∈ lw_all := lw_g (lw_at lw_m5 91 rfl) rfl
theorem q1167 : (Jvm.Cond.selects "CircuitCells$State" ({ cls := "CircuitCells$State", name := "goes", desc := "(LCircuitCells$Line;LCircuitCells$Fill;)V" } : Jvm.MethodName) ({ cls := "CircuitCells$State", name := "goes", desc := "(LCircuitCells$Line;LCircuitCells$Fill;)V" } : Jvm.MethodName)) ∈ lw_all := lw_g (lw_at lw_m5 92 rfl) rfl
theorem q1168 : (Jvm.Cond.code ({ cls := "CircuitCells$State", name := "goes", desc := "(LCircuitCells$Line;LCircuitCells$Fill;)V" } : Jvm.MethodName) prog_16_method_16_code (4 : Nat) (Option.none : Option Jvm.ClassFile.FieldType)) ∈ lw_all := lw_g (lw_at lw_m5 93 rfl) rfl
theorem q1169 : (Jvm.Cond.methodLink "CircuitCells$State" (275 : Nat) ({ cls := "CircuitCells$State", name := "sends", desc := "(LCircuitCells$Line;)V" } : Jvm.MethodName)) ∈ lw_all := lw_g (lw_at lw_m5 94 rfl) rfl
theorem q1170 : (Jvm.Cond.privateMethod ({ cls := "CircuitCells$State", name := "sends", desc := "(LCircuitCells$Line;)V" } : Jvm.MethodName)) ∈ lw_tbl := lw_at lw_m5 95 rfl
theorem q1171 : (Jvm.Cond.instanceMethod ({ cls := "CircuitCells$State", name := "sends", desc := "(LCircuitCells$Line;)V" } : Jvm.MethodName)) ∈ lw_all := lw_g (lw_at lw_m5 96 rfl) rfl
theorem q1172 : (Jvm.Cond.code ({ cls := "CircuitCells$State", name := "sends", desc := "(LCircuitCells$Line;)V" } : Jvm.MethodName) prog_16_method_9_code (3 : Nat) (Option.none : Option Jvm.ClassFile.FieldType)) ∈ lw_all := lw_g (lw_at lw_m5 97 rfl) rfl
theorem q1173 : (Jvm.Cond.fieldLink "CircuitCells$State" (225 : Nat) "CircuitCells$Value" "PACKET" "LCircuitCells$Value;") ∈ lw_all := lw_g (lw_at lw_m5 98 rfl) rfl
theorem q1175 : (Jvm.Cond.methodLink "CircuitCells$State" (231 : Nat) ({ cls := "CircuitCells$View", name := "sees", desc := "(LCircuitCells$Value;I)V" } : Jvm.MethodName)) ∈ lw_all := lw_g (lw_at lw_m5 100 rfl) rfl
theorem q1185 : (Jvm.Cond.fieldLink "CircuitCells$State" (237 : Nat) "CircuitCells$Value" "TIME" "LCircuitCells$Value;") ∈ lw_all := lw_g (lw_at lw_m5 110 rfl) rfl
theorem q1187 : (Jvm.Cond.fieldLink "CircuitCells$State" (240 : Nat) "CircuitCells$Value" "LAST" "LCircuitCells$Value;") ∈ lw_all := lw_g (lw_at lw_m5 112 rfl) rfl
theorem q1189 : (Jvm.Cond.fieldLink "CircuitCells$State" (243 : Nat) "CircuitCells$Value" "FLYING" "LCircuitCells$Value;") ∈ lw_all := lw_g (lw_at lw_m5 114 rfl) rfl
theorem q1191 : (Jvm.Cond.methodLink "CircuitCells$State" (246 : Nat) ({ cls := "CircuitCells$State", name := "delayBy", desc := "(LCircuitCells$Line;)I" } : Jvm.MethodName)) ∈ lw_all := lw_g (lw_at lw_m5 116 rfl) rfl
theorem q1192 : (Jvm.Cond.privateMethod ({ cls := "CircuitCells$State", name := "delayBy", desc := "(LCircuitCells$Line;)I" } : Jvm.MethodName)) ∈ lw_tbl := lw_at lw_m5 117 rfl
theorem q1193 : (Jvm.Cond.instanceMethod ({ cls := "CircuitCells$State", name := "delayBy", desc := "(LCircuitCells$Line;)I" } : Jvm.MethodName)) ∈ lw_all := lw_g (lw_at lw_m5 118 rfl) rfl
theorem q1194 : (Jvm.Cond.code ({ cls := "CircuitCells$State", name := "delayBy", desc := "(LCircuitCells$Line;)I" } : Jvm.MethodName) prog_16_method_6_code (3 : Nat) (Option.some Jvm.ClassFile.FieldType.int)) ∈ lw_all := lw_g (lw_at lw_m5 119 rfl) rfl
theorem q1195 : (Jvm.Cond.methodLink "CircuitCells$State" (182 : Nat) ({ cls := "CircuitCells$Course", name := "delay", desc := "(I)I" } : Jvm.MethodName)) ∈ lw_all := lw_g (lw_at lw_m5 120 rfl) rfl
theorem q1203 : (Jvm.Cond.methodLink "CircuitCells$State" (191 : Nat) ({ cls := "CircuitCells$Expr", name := "by", desc := "(LCircuitCells$View;)I" } : Jvm.MethodName)) ∈ lw_all := lw_g (lw_at lw_m5 128 rfl) rfl
theorem q1221 : (Jvm.Cond.methodLink "CircuitCells$State" (197 : Nat) ({ cls := "java/lang/Math", name := "min", desc := "(II)I" } : Jvm.MethodName)) ∈ lw_all := lw_g (lw_at lw_m5 146 rfl) rfl
theorem q1222 : (Jvm.Cond.methodLink "CircuitCells$State" (206 : Nat) ({ cls := "CircuitCells$Course", name := "keepsDelay", desc := "(II)V" } : Jvm.MethodName)) ∈ lw_all := lw_g (lw_at lw_m5 147 rfl) rfl
theorem q1226 : (Jvm.Cond.methodLink "CircuitCells$State" (250 : Nat) ({ cls := "CircuitCells$State", name := "isLost", desc := "(LCircuitCells$Line;)Z" } : Jvm.MethodName)) ∈ lw_all := lw_g (lw_at lw_m5 151 rfl) rfl
theorem q1227 : (Jvm.Cond.privateMethod ({ cls := "CircuitCells$State", name := "isLost", desc := "(LCircuitCells$Line;)Z" } : Jvm.MethodName)) ∈ lw_tbl := lw_at lw_m5 152 rfl
theorem q1228 : (Jvm.Cond.instanceMethod ({ cls := "CircuitCells$State", name := "isLost", desc := "(LCircuitCells$Line;)Z" } : Jvm.MethodName)) ∈ lw_all := lw_g (lw_at lw_m5 153 rfl) rfl
theorem q1229 : (Jvm.Cond.code ({ cls := "CircuitCells$State", name := "isLost", desc := "(LCircuitCells$Line;)Z" } : Jvm.MethodName) prog_16_method_8_code (3 : Nat) (Option.some Jvm.ClassFile.FieldType.boolean)) ∈ lw_all := lw_g (lw_at lw_m5 154 rfl) rfl
theorem q1230 : (Jvm.Cond.methodLink "CircuitCells$State" (221 : Nat) ({ cls := "CircuitCells$State", name := "isLostBy", desc := "(LCircuitCells$Line;)Z" } : Jvm.MethodName)) ∈ lw_all := lw_g (lw_at lw_m5 155 rfl) rfl
theorem q1231 : (Jvm.Cond.privateMethod ({ cls := "CircuitCells$State", name := "isLostBy", desc := "(LCircuitCells$Line;)Z" } : Jvm.MethodName)) ∈ lw_tbl := lw_at lw_m5 156 rfl
theorem q1232 : (Jvm.Cond.instanceMethod ({ cls := "CircuitCells$State", name := "isLostBy", desc := "(LCircuitCells$Line;)Z" } : Jvm.MethodName)) ∈ lw_all := lw_g (lw_at lw_m5 157 rfl) rfl
theorem q1233 : (Jvm.Cond.code ({ cls := "CircuitCells$State", name := "isLostBy", desc := "(LCircuitCells$Line;)Z" } : Jvm.MethodName) prog_16_method_7_code (3 : Nat) (Option.some Jvm.ClassFile.FieldType.boolean)) ∈ lw_all := lw_g (lw_at lw_m5 158 rfl) rfl
theorem q1234 : (Jvm.Cond.methodLink "CircuitCells$State" (212 : Nat) ({ cls := "CircuitCells$Course", name := "lost", desc := "(I)I" } : Jvm.MethodName)) ∈ lw_all := lw_g (lw_at lw_m5 159 rfl) rfl
theorem q1238 : (Jvm.Cond.methodLink "CircuitCells$State" (214 : Nat) ({ cls := "CircuitCells$Course", name := "keepsLost", desc := "(IZ)V" } : Jvm.MethodName)) ∈ lw_all := lw_g (lw_at lw_m5 163 rfl) rfl
theorem q1242 : (Jvm.Cond.methodLink "CircuitCells$State" (279 : Nat) ({ cls := "CircuitCells$State", name := "come", desc := "(LCircuitCells$Line;)V" } : Jvm.MethodName)) ∈ lw_all := lw_g (lw_at lw_m5 167 rfl) rfl
theorem q1243 : (Jvm.Cond.privateMethod ({ cls := "CircuitCells$State", name := "come", desc := "(LCircuitCells$Line;)V" } : Jvm.MethodName)) ∈ lw_tbl := lw_at lw_m5 168 rfl
theorem q1244 : (Jvm.Cond.instanceMethod ({ cls := "CircuitCells$State", name := "come", desc := "(LCircuitCells$Line;)V" } : Jvm.MethodName)) ∈ lw_all := lw_g (lw_at lw_m5 169 rfl) rfl
theorem q1245 : (Jvm.Cond.code ({ cls := "CircuitCells$State", name := "come", desc := "(LCircuitCells$Line;)V" } : Jvm.MethodName) prog_16_method_11_code (4 : Nat) (Option.none : Option Jvm.ClassFile.FieldType)) ∈ lw_all := lw_g (lw_at lw_m5 170 rfl) rfl
theorem q1246 : (Jvm.Cond.methodLink "CircuitCells$State" (260 : Nat) ({ cls := "CircuitCells$State", name := "comes", desc := "(LCircuitCells$Line;II)V" } : Jvm.MethodName)) ∈ lw_all := lw_g (lw_at lw_m5 171 rfl) rfl
theorem q1247 : (Jvm.Cond.privateMethod ({ cls := "CircuitCells$State", name := "comes", desc := "(LCircuitCells$Line;II)V" } : Jvm.MethodName)) ∈ lw_tbl := lw_at lw_m5 172 rfl
theorem q1248 : (Jvm.Cond.instanceMethod ({ cls := "CircuitCells$State", name := "comes", desc := "(LCircuitCells$Line;II)V" } : Jvm.MethodName)) ∈ lw_all := lw_g (lw_at lw_m5 173 rfl) rfl
theorem q1249 : (Jvm.Cond.code ({ cls := "CircuitCells$State", name := "comes", desc := "(LCircuitCells$Line;II)V" } : Jvm.MethodName) prog_16_method_10_code (7 : Nat) (Option.none : Option Jvm.ClassFile.FieldType)) ∈ lw_all := lw_g (lw_at lw_m5 174 rfl) rfl
theorem q1250 : (Jvm.Cond.methodLink "CircuitCells$State" (282 : Nat) ({ cls := "CircuitCells$State", name := "level", desc := "(LCircuitCells$Line;)I" } : Jvm.MethodName)) ∈ lw_all := lw_g (lw_at lw_m5 175 rfl) rfl
theorem q1251 : (Jvm.Cond.methodLink "CircuitCells$State" (288 : Nat) ({ cls := "CircuitCells$State", name := "steers", desc := "(I)V" } : Jvm.MethodName)) ∈ lw_all := lw_g (lw_at lw_m5 176 rfl) rfl
theorem q1252 : (Jvm.Cond.privateMethod ({ cls := "CircuitCells$State", name := "steers", desc := "(I)V" } : Jvm.MethodName)) ∈ lw_tbl := lw_at lw_m5 177 rfl
theorem q1253 : (Jvm.Cond.instanceMethod ({ cls := "CircuitCells$State", name := "steers", desc := "(I)V" } : Jvm.MethodName)) ∈ lw_all := lw_g (lw_at lw_m5 178 rfl) rfl
theorem q1254 : (Jvm.Cond.code ({ cls := "CircuitCells$State", name := "steers", desc := "(I)V" } : Jvm.MethodName) prog_16_method_13_code (3 : Nat) (Option.none : Option Jvm.ClassFile.FieldType)) ∈ lw_all := lw_g (lw_at lw_m5 179 rfl) rfl
theorem q1255 : (Jvm.Cond.methodLink "CircuitCells$State" (291 : Nat) ({ cls := "CircuitCells$State", name := "plays", desc := "(LCircuitCells$Line;LCircuitCells$Fill;)V" } : Jvm.MethodName)) ∈ lw_all := lw_g (lw_at lw_m5 180 rfl) rfl
theorem q1256 : (Jvm.Cond.privateMethod ({ cls := "CircuitCells$State", name := "plays", desc := "(LCircuitCells$Line;LCircuitCells$Fill;)V" } : Jvm.MethodName)) ∈ lw_tbl := lw_at lw_m5 181 rfl
theorem q1257 : (Jvm.Cond.instanceMethod ({ cls := "CircuitCells$State", name := "plays", desc := "(LCircuitCells$Line;LCircuitCells$Fill;)V" } : Jvm.MethodName)) ∈ lw_all := lw_g (lw_at lw_m5 182 rfl) rfl
theorem q1258 : (Jvm.Cond.code ({ cls := "CircuitCells$State", name := "plays", desc := "(LCircuitCells$Line;LCircuitCells$Fill;)V" } : Jvm.MethodName) prog_16_method_15_code (7 : Nat) (Option.none : Option Jvm.ClassFile.FieldType)) ∈ lw_all := lw_g (lw_at lw_m5 183 rfl) rfl
theorem q1259 : (Jvm.Cond.methodLink "CircuitCells$State" (264 : Nat) ({ cls := "CircuitCells$Line", name := "octet", desc := "(I)I" } : Jvm.MethodName)) ∈ lw_all := lw_g (lw_at lw_m5 184 rfl) rfl
theorem q1277 : (Jvm.Cond.interfaceEntry "CircuitCells$State" (266 : Nat)) ∈ lw_tbl := lw_at lw_m5 202 rfl
theorem q1278 : (Jvm.Cond.methodLink "CircuitCells$State" (266 : Nat) ({ cls := "CircuitCells$Fill", name := "of", desc := "(LCircuitCells$State;)I" } : Jvm.MethodName)) ∈ lw_all := lw_g (lw_at lw_m5 203 rfl) rfl
theorem q1281 : (Jvm.Cond.methodLink "CircuitCells$State" (272 : Nat) ({ cls := "java/util/BitSet", name := "set", desc := "(IZ)V" } : Jvm.MethodName)) ∈ lw_all := lw_g (lw_at lw_m5 206 rfl) rfl
theorem q1775 : (Jvm.Cond.instanceMethod ({ cls := "CircuitCells$State", name := "kept", desc := "(I)I" } : Jvm.MethodName)) ∈ lw_all := lw_g (lw_at lw_m7 220 rfl) rfl
theorem q1776 : (Jvm.Cond.selects "CircuitCells$State" ({ cls := "CircuitCells$State", name := "kept", desc := "(I)I" } : Jvm.MethodName) ({ cls := "CircuitCells$State", name := "kept", desc := "(I)I" } : Jvm.MethodName)) ∈ lw_all := lw_g (lw_at lw_m7 221 rfl) rfl
theorem q1777 : (Jvm.Cond.code ({ cls := "CircuitCells$State", name := "kept", desc := "(I)I" } : Jvm.MethodName) prog_16_method_17_code (2 : Nat) (Option.some Jvm.ClassFile.FieldType.int)) ∈ lw_all := lw_g (lw_at lw_m7 222 rfl) rfl
theorem q1809 : (Jvm.Cond.instanceMethod ({ cls := "CircuitCells$State", name := "lacks", desc := "()Ljava/util/BitSet;" } : Jvm.MethodName)) ∈ lw_all := lw_g (lw_at lw_m8 14 rfl) rfl
theorem q1810 : (Jvm.Cond.selects "CircuitCells$State" ({ cls := "CircuitCells$State", name := "lacks", desc := "()Ljava/util/BitSet;" } : Jvm.MethodName) ({ cls := "CircuitCells$State", name := "lacks", desc := "()Ljava/util/BitSet;" } : Jvm.MethodName)) ∈ lw_all := lw_g (lw_at lw_m8 15 rfl) rfl
theorem q1811 : (Jvm.Cond.code ({ cls := "CircuitCells$State", name := "lacks", desc := "()Ljava/util/BitSet;" } : Jvm.MethodName) prog_16_method_19_code (4 : Nat) (Option.some (Jvm.ClassFile.FieldType.object "java/util/BitSet"))) ∈ lw_all := lw_g (lw_at lw_m8 16 rfl) rfl
theorem q1812 : (Jvm.Cond.methodLink "CircuitCells$State" (295 : Nat) ({ cls := "CircuitCells$State", name := "kept", desc := "(I)I" } : Jvm.MethodName)) ∈ lw_all := lw_g (lw_at lw_m8 17 rfl) rfl
theorem q1813 : (Jvm.Cond.methodLink "CircuitCells$State" (298 : Nat) ({ cls := "java/util/BitSet", name := "get", desc := "(I)Z" } : Jvm.MethodName)) ∈ lw_all := lw_g (lw_at lw_m8 18 rfl) rfl
theorem q1814 : (Jvm.Cond.methodLink "CircuitCells$State" (302 : Nat) ({ cls := "java/util/BitSet", name := "set", desc := "(I)V" } : Jvm.MethodName)) ∈ lw_all := lw_g (lw_at lw_m8 19 rfl) rfl
theorem q2182 : (Jvm.Cond.instanceMethod ({ cls := "CircuitCells$State", name := "sampleAt", desc := "(I)I" } : Jvm.MethodName)) ∈ lw_all := lw_g (lw_at lw_m9 147 rfl) rfl
theorem q2183 : (Jvm.Cond.selects "CircuitCells$State" ({ cls := "CircuitCells$State", name := "sampleAt", desc := "(I)I" } : Jvm.MethodName) ({ cls := "CircuitCells$State", name := "sampleAt", desc := "(I)I" } : Jvm.MethodName)) ∈ lw_all := lw_g (lw_at lw_m9 148 rfl) rfl
theorem q2184 : (Jvm.Cond.code ({ cls := "CircuitCells$State", name := "sampleAt", desc := "(I)I" } : Jvm.MethodName) prog_16_method_18_code (2 : Nat) (Option.some Jvm.ClassFile.FieldType.int)) ∈ lw_all := lw_g (lw_at lw_m9 149 rfl) rfl
theorem q2973 : (Jvm.Cond.castable "CircuitCells$State" "java/lang/Object") ∈ lw_tbl := lw_at lw_m12 218 rfl

abbrev cX7_init : ByteArray := prog_4_method_1_code
def yX7_init : MethodName := ⟨RX7, "<init>", "()V"⟩
def dkwX7_init_0 : List UInt8 := [42, 183, 0, 3, 42, 17, 2, 0, 188, 10, 181, 0, 11, 42, 17, 2, 0, 188, 10, 181, 0, 15, 177]
abbrev dktX7_init_0 : List UInt8 := dkwX7_init_0 ++ []
theorem dksX7_init_0 : cX7_init.data.toList.drop 0 = dktX7_init_0 := by decide +kernel
theorem dX7_init_0 : decode cX7_init 0 = .ok (.aload_n 0, 1) := dk_42 (dk_at dksX7_init_0 0 rfl rfl)
theorem dX7_init_1 : decode cX7_init 1 = .ok (.invokespecial 3, 3) := dk_183 0 3 (dk_at dksX7_init_0 1 rfl rfl)
theorem dX7_init_4 : decode cX7_init 4 = .ok (.aload_n 0, 1) := dk_42 (dk_at dksX7_init_0 4 rfl rfl)
theorem dX7_init_5 : decode cX7_init 5 = .ok (.sipush 512, 3) := dk_17 2 0 (dk_at dksX7_init_0 5 rfl rfl)
theorem dX7_init_8 : decode cX7_init 8 = .ok (.newarray .int, 2) := dk_188_10 (dk_at dksX7_init_0 8 rfl rfl)
theorem dX7_init_10 : decode cX7_init 10 = .ok (.putfield 11, 3) := dk_181 0 11 (dk_at dksX7_init_0 10 rfl rfl)
theorem dX7_init_13 : decode cX7_init 13 = .ok (.aload_n 0, 1) := dk_42 (dk_at dksX7_init_0 13 rfl rfl)
theorem dX7_init_14 : decode cX7_init 14 = .ok (.sipush 512, 3) := dk_17 2 0 (dk_at dksX7_init_0 14 rfl rfl)
theorem dX7_init_17 : decode cX7_init 17 = .ok (.newarray .int, 2) := dk_188_10 (dk_at dksX7_init_0 17 rfl rfl)
theorem dX7_init_19 : decode cX7_init 19 = .ok (.putfield 15, 3) := dk_181 0 15 (dk_at dksX7_init_0 19 rfl rfl)
theorem dX7_init_22 : decode cX7_init 22 = .ok (.return_, 1) := dk_177 (dk_at dksX7_init_0 22 rfl rfl)
abbrev cX7_delay : ByteArray := prog_4_method_4_code
def yX7_delay : MethodName := ⟨RX7, "delay", "(I)I"⟩
def dkwX7_delay_0 : List UInt8 := [42, 27, 182, 0, 22, 153, 0, 17, 42, 180, 0, 11, 27, 42, 180, 0, 18, 100, 46, 167, 0, 4, 2, 172]
abbrev dktX7_delay_0 : List UInt8 := dkwX7_delay_0 ++ []
theorem dksX7_delay_0 : cX7_delay.data.toList.drop 0 = dktX7_delay_0 := by decide +kernel
theorem dX7_delay_0 : decode cX7_delay 0 = .ok (.aload_n 0, 1) := dk_42 (dk_at dksX7_delay_0 0 rfl rfl)
theorem dX7_delay_1 : decode cX7_delay 1 = .ok (.iload_n 1, 1) := dk_27 (dk_at dksX7_delay_0 1 rfl rfl)
theorem dX7_delay_2 : decode cX7_delay 2 = .ok (.invokevirtual 22, 3) := dk_182 0 22 (dk_at dksX7_delay_0 2 rfl rfl)
theorem dX7_delay_5 : decode cX7_delay 5 = .ok (.ifCond .eq 17, 3) := dk_153 0 17 (dk_at dksX7_delay_0 5 rfl rfl)
theorem dX7_delay_8 : decode cX7_delay 8 = .ok (.aload_n 0, 1) := dk_42 (dk_at dksX7_delay_0 8 rfl rfl)
theorem dX7_delay_9 : decode cX7_delay 9 = .ok (.getfield 11, 3) := dk_180 0 11 (dk_at dksX7_delay_0 9 rfl rfl)
theorem dX7_delay_12 : decode cX7_delay 12 = .ok (.iload_n 1, 1) := dk_27 (dk_at dksX7_delay_0 12 rfl rfl)
theorem dX7_delay_13 : decode cX7_delay 13 = .ok (.aload_n 0, 1) := dk_42 (dk_at dksX7_delay_0 13 rfl rfl)
theorem dX7_delay_14 : decode cX7_delay 14 = .ok (.getfield 18, 3) := dk_180 0 18 (dk_at dksX7_delay_0 14 rfl rfl)
theorem dX7_delay_17 : decode cX7_delay 17 = .ok (.isub, 1) := dk_100 (dk_at dksX7_delay_0 17 rfl rfl)
theorem dX7_delay_18 : decode cX7_delay 18 = .ok (.iaload, 1) := dk_46 (dk_at dksX7_delay_0 18 rfl rfl)
theorem dX7_delay_19 : decode cX7_delay 19 = .ok (.goto 4, 3) := dk_167 0 4 (dk_at dksX7_delay_0 19 rfl rfl)
theorem dX7_delay_22 : decode cX7_delay 22 = .ok (.iconst (-1), 1) := dk_2 (dk_at dksX7_delay_0 22 rfl rfl)
theorem dX7_delay_23 : decode cX7_delay 23 = .ok (.ireturn, 1) := dk_172 (dk_at dksX7_delay_0 23 rfl rfl)
abbrev cX7_has : ByteArray := prog_4_method_3_code
def yX7_has : MethodName := ⟨RX7, "has", "(I)Z"⟩
def dkwX7_has_1 : List UInt8 := [3, 172]
abbrev dktX7_has_1 : List UInt8 := dkwX7_has_1 ++ []
def dkwX7_has_0 : List UInt8 := [27, 42, 180, 0, 18, 161, 0, 19, 27, 42, 180, 0, 18, 17, 2, 0, 96, 162, 0, 7, 4, 167, 0, 4]
abbrev dktX7_has_0 : List UInt8 := dkwX7_has_0 ++ dktX7_has_1
theorem dksX7_has_0 : cX7_has.data.toList.drop 0 = dktX7_has_0 := by decide +kernel
theorem dksX7_has_1 : cX7_has.data.toList.drop 24 = dktX7_has_1 := dk_seg dksX7_has_0 24 rfl rfl
theorem dX7_has_0 : decode cX7_has 0 = .ok (.iload_n 1, 1) := dk_27 (dk_at dksX7_has_0 0 rfl rfl)
theorem dX7_has_1 : decode cX7_has 1 = .ok (.aload_n 0, 1) := dk_42 (dk_at dksX7_has_0 1 rfl rfl)
theorem dX7_has_2 : decode cX7_has 2 = .ok (.getfield 18, 3) := dk_180 0 18 (dk_at dksX7_has_0 2 rfl rfl)
theorem dX7_has_5 : decode cX7_has 5 = .ok (.if_icmp .lt 19, 3) := dk_161 0 19 (dk_at dksX7_has_0 5 rfl rfl)
theorem dX7_has_8 : decode cX7_has 8 = .ok (.iload_n 1, 1) := dk_27 (dk_at dksX7_has_0 8 rfl rfl)
theorem dX7_has_9 : decode cX7_has 9 = .ok (.aload_n 0, 1) := dk_42 (dk_at dksX7_has_0 9 rfl rfl)
theorem dX7_has_10 : decode cX7_has 10 = .ok (.getfield 18, 3) := dk_180 0 18 (dk_at dksX7_has_0 10 rfl rfl)
theorem dX7_has_13 : decode cX7_has 13 = .ok (.sipush 512, 3) := dk_17 2 0 (dk_at dksX7_has_0 13 rfl rfl)
theorem dX7_has_16 : decode cX7_has 16 = .ok (.iadd, 1) := dk_96 (dk_at dksX7_has_0 16 rfl rfl)
theorem dX7_has_17 : decode cX7_has 17 = .ok (.if_icmp .ge 7, 3) := dk_162 0 7 (dk_at dksX7_has_0 17 rfl rfl)
theorem dX7_has_20 : decode cX7_has 20 = .ok (.iconst 1, 1) := dk_4 (dk_at dksX7_has_0 20 rfl rfl)
theorem dX7_has_21 : decode cX7_has 21 = .ok (.goto 4, 3) := dk_167 0 4 (dk_at dksX7_has_0 21 rfl rfl)
theorem dX7_has_24 : decode cX7_has 24 = .ok (.iconst 0, 1) := dk_3 (dk_at dksX7_has_1 0 rfl rfl)
theorem dX7_has_25 : decode cX7_has 25 = .ok (.ireturn, 1) := dk_172 (dk_at dksX7_has_1 1 rfl rfl)
abbrev cX7_keepsDelay : ByteArray := prog_4_method_6_code
def yX7_keepsDelay : MethodName := ⟨RX7, "keepsDelay", "(II)V"⟩
def dkwX7_keepsDelay_0 : List UInt8 := [42, 27, 182, 0, 22, 153, 0, 15, 42, 180, 0, 11, 27, 42, 180, 0, 18, 100, 28, 79, 177]
abbrev dktX7_keepsDelay_0 : List UInt8 := dkwX7_keepsDelay_0 ++ []
theorem dksX7_keepsDelay_0 : cX7_keepsDelay.data.toList.drop 0 = dktX7_keepsDelay_0 := by decide +kernel
theorem dX7_keepsDelay_0 : decode cX7_keepsDelay 0 = .ok (.aload_n 0, 1) := dk_42 (dk_at dksX7_keepsDelay_0 0 rfl rfl)
theorem dX7_keepsDelay_1 : decode cX7_keepsDelay 1 = .ok (.iload_n 1, 1) := dk_27 (dk_at dksX7_keepsDelay_0 1 rfl rfl)
theorem dX7_keepsDelay_2 : decode cX7_keepsDelay 2 = .ok (.invokevirtual 22, 3) := dk_182 0 22 (dk_at dksX7_keepsDelay_0 2 rfl rfl)
theorem dX7_keepsDelay_5 : decode cX7_keepsDelay 5 = .ok (.ifCond .eq 15, 3) := dk_153 0 15 (dk_at dksX7_keepsDelay_0 5 rfl rfl)
theorem dX7_keepsDelay_8 : decode cX7_keepsDelay 8 = .ok (.aload_n 0, 1) := dk_42 (dk_at dksX7_keepsDelay_0 8 rfl rfl)
theorem dX7_keepsDelay_9 : decode cX7_keepsDelay 9 = .ok (.getfield 11, 3) := dk_180 0 11 (dk_at dksX7_keepsDelay_0 9 rfl rfl)
theorem dX7_keepsDelay_12 : decode cX7_keepsDelay 12 = .ok (.iload_n 1, 1) := dk_27 (dk_at dksX7_keepsDelay_0 12 rfl rfl)
theorem dX7_keepsDelay_13 : decode cX7_keepsDelay 13 = .ok (.aload_n 0, 1) := dk_42 (dk_at dksX7_keepsDelay_0 13 rfl rfl)
theorem dX7_keepsDelay_14 : decode cX7_keepsDelay 14 = .ok (.getfield 18, 3) := dk_180 0 18 (dk_at dksX7_keepsDelay_0 14 rfl rfl)
theorem dX7_keepsDelay_17 : decode cX7_keepsDelay 17 = .ok (.isub, 1) := dk_100 (dk_at dksX7_keepsDelay_0 17 rfl rfl)
theorem dX7_keepsDelay_18 : decode cX7_keepsDelay 18 = .ok (.iload_n 2, 1) := dk_28 (dk_at dksX7_keepsDelay_0 18 rfl rfl)
theorem dX7_keepsDelay_19 : decode cX7_keepsDelay 19 = .ok (.iastore, 1) := dk_79 (dk_at dksX7_keepsDelay_0 19 rfl rfl)
theorem dX7_keepsDelay_20 : decode cX7_keepsDelay 20 = .ok (.return_, 1) := dk_177 (dk_at dksX7_keepsDelay_0 20 rfl rfl)
abbrev cX7_lost : ByteArray := prog_4_method_5_code
def yX7_lost : MethodName := ⟨RX7, "lost", "(I)I"⟩
def dkwX7_lost_0 : List UInt8 := [42, 27, 182, 0, 22, 153, 0, 17, 42, 180, 0, 15, 27, 42, 180, 0, 18, 100, 46, 167, 0, 4, 2, 172]
abbrev dktX7_lost_0 : List UInt8 := dkwX7_lost_0 ++ []
theorem dksX7_lost_0 : cX7_lost.data.toList.drop 0 = dktX7_lost_0 := by decide +kernel
theorem dX7_lost_0 : decode cX7_lost 0 = .ok (.aload_n 0, 1) := dk_42 (dk_at dksX7_lost_0 0 rfl rfl)
theorem dX7_lost_1 : decode cX7_lost 1 = .ok (.iload_n 1, 1) := dk_27 (dk_at dksX7_lost_0 1 rfl rfl)
theorem dX7_lost_2 : decode cX7_lost 2 = .ok (.invokevirtual 22, 3) := dk_182 0 22 (dk_at dksX7_lost_0 2 rfl rfl)
theorem dX7_lost_5 : decode cX7_lost 5 = .ok (.ifCond .eq 17, 3) := dk_153 0 17 (dk_at dksX7_lost_0 5 rfl rfl)
theorem dX7_lost_8 : decode cX7_lost 8 = .ok (.aload_n 0, 1) := dk_42 (dk_at dksX7_lost_0 8 rfl rfl)
theorem dX7_lost_9 : decode cX7_lost 9 = .ok (.getfield 15, 3) := dk_180 0 15 (dk_at dksX7_lost_0 9 rfl rfl)
theorem dX7_lost_12 : decode cX7_lost 12 = .ok (.iload_n 1, 1) := dk_27 (dk_at dksX7_lost_0 12 rfl rfl)
theorem dX7_lost_13 : decode cX7_lost 13 = .ok (.aload_n 0, 1) := dk_42 (dk_at dksX7_lost_0 13 rfl rfl)
theorem dX7_lost_14 : decode cX7_lost 14 = .ok (.getfield 18, 3) := dk_180 0 18 (dk_at dksX7_lost_0 14 rfl rfl)
theorem dX7_lost_17 : decode cX7_lost 17 = .ok (.isub, 1) := dk_100 (dk_at dksX7_lost_0 17 rfl rfl)
theorem dX7_lost_18 : decode cX7_lost 18 = .ok (.iaload, 1) := dk_46 (dk_at dksX7_lost_0 18 rfl rfl)
theorem dX7_lost_19 : decode cX7_lost 19 = .ok (.goto 4, 3) := dk_167 0 4 (dk_at dksX7_lost_0 19 rfl rfl)
theorem dX7_lost_22 : decode cX7_lost 22 = .ok (.iconst (-1), 1) := dk_2 (dk_at dksX7_lost_0 22 rfl rfl)
theorem dX7_lost_23 : decode cX7_lost 23 = .ok (.ireturn, 1) := dk_172 (dk_at dksX7_lost_0 23 rfl rfl)
abbrev cX7_keepsLost : ByteArray := prog_4_method_7_code
def yX7_keepsLost : MethodName := ⟨RX7, "keepsLost", "(IZ)V"⟩
def dkwX7_keepsLost_1 : List UInt8 := [167, 0, 4, 3, 79, 177]
abbrev dktX7_keepsLost_1 : List UInt8 := dkwX7_keepsLost_1 ++ []
def dkwX7_keepsLost_0 : List UInt8 := [42, 27, 182, 0, 22, 153, 0, 23, 42, 180, 0, 15, 27, 42, 180, 0, 18, 100, 28, 153, 0, 7, 4]
abbrev dktX7_keepsLost_0 : List UInt8 := dkwX7_keepsLost_0 ++ dktX7_keepsLost_1
theorem dksX7_keepsLost_0 : cX7_keepsLost.data.toList.drop 0 = dktX7_keepsLost_0 := by decide +kernel
theorem dksX7_keepsLost_1 : cX7_keepsLost.data.toList.drop 23 = dktX7_keepsLost_1 := dk_seg dksX7_keepsLost_0 23 rfl rfl
theorem dX7_keepsLost_0 : decode cX7_keepsLost 0 = .ok (.aload_n 0, 1) := dk_42 (dk_at dksX7_keepsLost_0 0 rfl rfl)
theorem dX7_keepsLost_1 : decode cX7_keepsLost 1 = .ok (.iload_n 1, 1) := dk_27 (dk_at dksX7_keepsLost_0 1 rfl rfl)
theorem dX7_keepsLost_2 : decode cX7_keepsLost 2 = .ok (.invokevirtual 22, 3) := dk_182 0 22 (dk_at dksX7_keepsLost_0 2 rfl rfl)
theorem dX7_keepsLost_5 : decode cX7_keepsLost 5 = .ok (.ifCond .eq 23, 3) := dk_153 0 23 (dk_at dksX7_keepsLost_0 5 rfl rfl)
theorem dX7_keepsLost_8 : decode cX7_keepsLost 8 = .ok (.aload_n 0, 1) := dk_42 (dk_at dksX7_keepsLost_0 8 rfl rfl)
theorem dX7_keepsLost_9 : decode cX7_keepsLost 9 = .ok (.getfield 15, 3) := dk_180 0 15 (dk_at dksX7_keepsLost_0 9 rfl rfl)
theorem dX7_keepsLost_12 : decode cX7_keepsLost 12 = .ok (.iload_n 1, 1) := dk_27 (dk_at dksX7_keepsLost_0 12 rfl rfl)
theorem dX7_keepsLost_13 : decode cX7_keepsLost 13 = .ok (.aload_n 0, 1) := dk_42 (dk_at dksX7_keepsLost_0 13 rfl rfl)
theorem dX7_keepsLost_14 : decode cX7_keepsLost 14 = .ok (.getfield 18, 3) := dk_180 0 18 (dk_at dksX7_keepsLost_0 14 rfl rfl)
theorem dX7_keepsLost_17 : decode cX7_keepsLost 17 = .ok (.isub, 1) := dk_100 (dk_at dksX7_keepsLost_0 17 rfl rfl)
theorem dX7_keepsLost_18 : decode cX7_keepsLost 18 = .ok (.iload_n 2, 1) := dk_28 (dk_at dksX7_keepsLost_0 18 rfl rfl)
theorem dX7_keepsLost_19 : decode cX7_keepsLost 19 = .ok (.ifCond .eq 7, 3) := dk_153 0 7 (dk_at dksX7_keepsLost_0 19 rfl rfl)
theorem dX7_keepsLost_22 : decode cX7_keepsLost 22 = .ok (.iconst 1, 1) := dk_4 (dk_at dksX7_keepsLost_0 22 rfl rfl)
theorem dX7_keepsLost_23 : decode cX7_keepsLost 23 = .ok (.goto 4, 3) := dk_167 0 4 (dk_at dksX7_keepsLost_1 0 rfl rfl)
theorem dX7_keepsLost_26 : decode cX7_keepsLost 26 = .ok (.iconst 0, 1) := dk_3 (dk_at dksX7_keepsLost_1 3 rfl rfl)
theorem dX7_keepsLost_27 : decode cX7_keepsLost 27 = .ok (.iastore, 1) := dk_79 (dk_at dksX7_keepsLost_1 4 rfl rfl)
theorem dX7_keepsLost_28 : decode cX7_keepsLost 28 = .ok (.return_, 1) := dk_177 (dk_at dksX7_keepsLost_1 5 rfl rfl)
abbrev cX7_begins : ByteArray := prog_4_method_2_code
def yX7_begins : MethodName := ⟨RX7, "begins", "(I)LCircuitCells$Course;"⟩
def dkwX7_begins_1 : List UInt8 := [180, 0, 15, 28, 2, 79, 132, 2, 1, 167, 255, 232, 42, 176]
abbrev dktX7_begins_1 : List UInt8 := dkwX7_begins_1 ++ []
def dkwX7_begins_0 : List UInt8 := [42, 27, 181, 0, 18, 3, 61, 28, 17, 2, 0, 162, 0, 23, 42, 180, 0, 11, 28, 2, 79, 42]
abbrev dktX7_begins_0 : List UInt8 := dkwX7_begins_0 ++ dktX7_begins_1
theorem dksX7_begins_0 : cX7_begins.data.toList.drop 0 = dktX7_begins_0 := by decide +kernel
theorem dksX7_begins_1 : cX7_begins.data.toList.drop 22 = dktX7_begins_1 := dk_seg dksX7_begins_0 22 rfl rfl
theorem dX7_begins_0 : decode cX7_begins 0 = .ok (.aload_n 0, 1) := dk_42 (dk_at dksX7_begins_0 0 rfl rfl)
theorem dX7_begins_1 : decode cX7_begins 1 = .ok (.iload_n 1, 1) := dk_27 (dk_at dksX7_begins_0 1 rfl rfl)
theorem dX7_begins_2 : decode cX7_begins 2 = .ok (.putfield 18, 3) := dk_181 0 18 (dk_at dksX7_begins_0 2 rfl rfl)
theorem dX7_begins_5 : decode cX7_begins 5 = .ok (.iconst 0, 1) := dk_3 (dk_at dksX7_begins_0 5 rfl rfl)
theorem dX7_begins_6 : decode cX7_begins 6 = .ok (.istore_n 2, 1) := dk_61 (dk_at dksX7_begins_0 6 rfl rfl)
theorem dX7_begins_7 : decode cX7_begins 7 = .ok (.iload_n 2, 1) := dk_28 (dk_at dksX7_begins_0 7 rfl rfl)
theorem dX7_begins_8 : decode cX7_begins 8 = .ok (.sipush 512, 3) := dk_17 2 0 (dk_at dksX7_begins_0 8 rfl rfl)
theorem dX7_begins_11 : decode cX7_begins 11 = .ok (.if_icmp .ge 23, 3) := dk_162 0 23 (dk_at dksX7_begins_0 11 rfl rfl)
theorem dX7_begins_14 : decode cX7_begins 14 = .ok (.aload_n 0, 1) := dk_42 (dk_at dksX7_begins_0 14 rfl rfl)
theorem dX7_begins_15 : decode cX7_begins 15 = .ok (.getfield 11, 3) := dk_180 0 11 (dk_at dksX7_begins_0 15 rfl rfl)
theorem dX7_begins_18 : decode cX7_begins 18 = .ok (.iload_n 2, 1) := dk_28 (dk_at dksX7_begins_0 18 rfl rfl)
theorem dX7_begins_19 : decode cX7_begins 19 = .ok (.iconst (-1), 1) := dk_2 (dk_at dksX7_begins_0 19 rfl rfl)
theorem dX7_begins_20 : decode cX7_begins 20 = .ok (.iastore, 1) := dk_79 (dk_at dksX7_begins_0 20 rfl rfl)
theorem dX7_begins_21 : decode cX7_begins 21 = .ok (.aload_n 0, 1) := dk_42 (dk_at dksX7_begins_0 21 rfl rfl)
theorem dX7_begins_22 : decode cX7_begins 22 = .ok (.getfield 15, 3) := dk_180 0 15 (dk_at dksX7_begins_1 0 rfl rfl)
theorem dX7_begins_25 : decode cX7_begins 25 = .ok (.iload_n 2, 1) := dk_28 (dk_at dksX7_begins_1 3 rfl rfl)
theorem dX7_begins_26 : decode cX7_begins 26 = .ok (.iconst (-1), 1) := dk_2 (dk_at dksX7_begins_1 4 rfl rfl)
theorem dX7_begins_27 : decode cX7_begins 27 = .ok (.iastore, 1) := dk_79 (dk_at dksX7_begins_1 5 rfl rfl)
theorem dX7_begins_28 : decode cX7_begins 28 = .ok (.iinc 2 1, 3) := dk_132 2 1 (dk_at dksX7_begins_1 6 rfl rfl)
theorem dX7_begins_31 : decode cX7_begins 31 = .ok (.goto (-24), 3) := dk_167 255 232 (dk_at dksX7_begins_1 9 rfl rfl)
theorem dX7_begins_34 : decode cX7_begins 34 = .ok (.aload_n 0, 1) := dk_42 (dk_at dksX7_begins_1 12 rfl rfl)
theorem dX7_begins_35 : decode cX7_begins 35 = .ok (.areturn, 1) := dk_176 (dk_at dksX7_begins_1 13 rfl rfl)
theorem q144 : (Jvm.Cond.initialized "CircuitCells$Course") ∈ lw_all := lw_g (lw_at lw_m1 29 rfl) rfl
theorem q854 : (Jvm.Cond.selects "CircuitCells$Course" ({ cls := "java/lang/Object", name := "getClass", desc := "()Ljava/lang/Class;" } : Jvm.MethodName) ({ cls := "java/lang/Object", name := "getClass", desc := "()Ljava/lang/Class;" } : Jvm.MethodName)) ∈ lw_all := lw_g (lw_at lw_m4 19 rfl) rfl
theorem q942 : (Jvm.Cond.instantiable "CircuitCells$Course" (3 : Nat)) ∈ lw_all := lw_g (lw_at lw_m4 107 rfl) rfl
theorem q944 : (Jvm.Cond.instanceMethod ({ cls := "CircuitCells$Course", name := "<init>", desc := "()V" } : Jvm.MethodName)) ∈ lw_all := lw_g (lw_at lw_m4 109 rfl) rfl
theorem q945 : (Jvm.Cond.code ({ cls := "CircuitCells$Course", name := "<init>", desc := "()V" } : Jvm.MethodName) prog_4_method_1_code (1 : Nat) (Option.none : Option Jvm.ClassFile.FieldType)) ∈ lw_all := lw_g (lw_at lw_m4 110 rfl) rfl
theorem q946 : (Jvm.Cond.methodLink "CircuitCells$Course" (3 : Nat) ({ cls := "java/lang/Object", name := "<init>", desc := "()V" } : Jvm.MethodName)) ∈ lw_all := lw_g (lw_at lw_m4 111 rfl) rfl
theorem q947 : (Jvm.Cond.fieldLink "CircuitCells$Course" (11 : Nat) "CircuitCells$Course" "delays" "[I") ∈ lw_all := lw_g (lw_at lw_m4 112 rfl) rfl
theorem q948 : (Jvm.Cond.fieldLink "CircuitCells$Course" (15 : Nat) "CircuitCells$Course" "losses" "[I") ∈ lw_all := lw_g (lw_at lw_m4 113 rfl) rfl
theorem q949 : (Jvm.Cond.fieldLink "CircuitCells$Course" (18 : Nat) "CircuitCells$Course" "base" "I") ∈ lw_all := lw_g (lw_at lw_m4 114 rfl) rfl
theorem q950 : (Jvm.Cond.laysFinal "CircuitCells$Course" "CircuitCells$Course" "delays" "[I") ∈ lw_all := lw_g (lw_at lw_m4 115 rfl) rfl
theorem q951 : (Jvm.Cond.soleField "CircuitCells$Course" "delays") ∈ lw_all := lw_g (lw_at lw_m4 116 rfl) rfl
theorem q952 : (Jvm.Cond.laysFinal "CircuitCells$Course" "CircuitCells$Course" "losses" "[I") ∈ lw_all := lw_g (lw_at lw_m4 117 rfl) rfl
theorem q953 : (Jvm.Cond.soleField "CircuitCells$Course" "losses") ∈ lw_all := lw_g (lw_at lw_m4 118 rfl) rfl
theorem q954 : (Jvm.Cond.lays "CircuitCells$Course" "CircuitCells$Course" "base" "I") ∈ lw_all := lw_g (lw_at lw_m4 119 rfl) rfl
theorem q955 : (Jvm.Cond.soleField "CircuitCells$Course" "base") ∈ lw_all := lw_g (lw_at lw_m4 120 rfl) rfl
theorem q956 : (Jvm.Cond.superclass "CircuitCells$Course" "java/lang/Object") ∈ lw_all := lw_g (lw_at lw_m4 121 rfl) rfl
theorem q1196 : (Jvm.Cond.instanceMethod ({ cls := "CircuitCells$Course", name := "delay", desc := "(I)I" } : Jvm.MethodName)) ∈ lw_all := lw_g (lw_at lw_m5 121 rfl) rfl
theorem q1197 : (Jvm.Cond.selects "CircuitCells$Course" ({ cls := "CircuitCells$Course", name := "delay", desc := "(I)I" } : Jvm.MethodName) ({ cls := "CircuitCells$Course", name := "delay", desc := "(I)I" } : Jvm.MethodName)) ∈ lw_all := lw_g (lw_at lw_m5 122 rfl) rfl
theorem q1198 : (Jvm.Cond.code ({ cls := "CircuitCells$Course", name := "delay", desc := "(I)I" } : Jvm.MethodName) prog_4_method_4_code (2 : Nat) (Option.some Jvm.ClassFile.FieldType.int)) ∈ lw_all := lw_g (lw_at lw_m5 123 rfl) rfl
theorem q1199 : (Jvm.Cond.methodLink "CircuitCells$Course" (22 : Nat) ({ cls := "CircuitCells$Course", name := "has", desc := "(I)Z" } : Jvm.MethodName)) ∈ lw_all := lw_g (lw_at lw_m5 124 rfl) rfl
theorem q1200 : (Jvm.Cond.privateMethod ({ cls := "CircuitCells$Course", name := "has", desc := "(I)Z" } : Jvm.MethodName)) ∈ lw_tbl := lw_at lw_m5 125 rfl
theorem q1201 : (Jvm.Cond.instanceMethod ({ cls := "CircuitCells$Course", name := "has", desc := "(I)Z" } : Jvm.MethodName)) ∈ lw_all := lw_g (lw_at lw_m5 126 rfl) rfl
theorem q1202 : (Jvm.Cond.code ({ cls := "CircuitCells$Course", name := "has", desc := "(I)Z" } : Jvm.MethodName) prog_4_method_3_code (2 : Nat) (Option.some Jvm.ClassFile.FieldType.boolean)) ∈ lw_all := lw_g (lw_at lw_m5 127 rfl) rfl
theorem q1223 : (Jvm.Cond.instanceMethod ({ cls := "CircuitCells$Course", name := "keepsDelay", desc := "(II)V" } : Jvm.MethodName)) ∈ lw_all := lw_g (lw_at lw_m5 148 rfl) rfl
theorem q1224 : (Jvm.Cond.selects "CircuitCells$Course" ({ cls := "CircuitCells$Course", name := "keepsDelay", desc := "(II)V" } : Jvm.MethodName) ({ cls := "CircuitCells$Course", name := "keepsDelay", desc := "(II)V" } : Jvm.MethodName)) ∈ lw_all := lw_g (lw_at lw_m5 149 rfl) rfl
theorem q1225 : (Jvm.Cond.code ({ cls := "CircuitCells$Course", name := "keepsDelay", desc := "(II)V" } : Jvm.MethodName) prog_4_method_6_code (3 : Nat) (Option.none : Option Jvm.ClassFile.FieldType)) ∈ lw_all := lw_g (lw_at lw_m5 150 rfl) rfl
theorem q1235 : (Jvm.Cond.instanceMethod ({ cls := "CircuitCells$Course", name := "lost", desc := "(I)I" } : Jvm.MethodName)) ∈ lw_all := lw_g (lw_at lw_m5 160 rfl) rfl
theorem q1236 : (Jvm.Cond.selects "CircuitCells$Course" ({ cls := "CircuitCells$Course", name := "lost", desc := "(I)I" } : Jvm.MethodName) ({ cls := "CircuitCells$Course", name := "lost", desc := "(I)I" } : Jvm.MethodName)) ∈ lw_all := lw_g (lw_at lw_m5 161 rfl) rfl
theorem q1237 : (Jvm.Cond.code ({ cls := "CircuitCells$Course", name := "lost", desc := "(I)I" } : Jvm.MethodName) prog_4_method_5_code (2 : Nat) (Option.some Jvm.ClassFile.FieldType.int)) ∈ lw_all := lw_g (lw_at lw_m5 162 rfl) rfl
theorem q1239 : (Jvm.Cond.instanceMethod ({ cls := "CircuitCells$Course", name := "keepsLost", desc := "(IZ)V" } : Jvm.MethodName)) ∈ lw_all := lw_g (lw_at lw_m5 164 rfl) rfl
theorem q1240 : (Jvm.Cond.selects "CircuitCells$Course" ({ cls := "CircuitCells$Course", name := "keepsLost", desc := "(IZ)V" } : Jvm.MethodName) ({ cls := "CircuitCells$Course", name := "keepsLost", desc := "(IZ)V" } : Jvm.MethodName)) ∈ lw_all := lw_g (lw_at lw_m5 165 rfl) rfl
theorem q1241 : (Jvm.Cond.code ({ cls := "CircuitCells$Course", name := "keepsLost", desc := "(IZ)V" } : Jvm.MethodName) prog_4_method_7_code (3 : Nat) (Option.none : Option Jvm.ClassFile.FieldType)) ∈ lw_all := lw_g (lw_at lw_m5 166 rfl) rfl
theorem q2305 : (Jvm.Cond.instanceMethod ({ cls := "CircuitCells$Course", name := "begins", desc := "(I)LCircuitCells$Course;" } : Jvm.MethodName)) ∈ lw_all := lw_g (lw_at lw_m10 30 rfl) rfl
theorem q2306 : (Jvm.Cond.selects "CircuitCells$Course" ({ cls := "CircuitCells$Course", name := "begins", desc := "(I)LCircuitCells$Course;" } : Jvm.MethodName) ({ cls := "CircuitCells$Course", name := "begins", desc := "(I)LCircuitCells$Course;" } : Jvm.MethodName)) ∈ lw_all := lw_g (lw_at lw_m10 31 rfl) rfl
theorem q2307 : (Jvm.Cond.code ({ cls := "CircuitCells$Course", name := "begins", desc := "(I)LCircuitCells$Course;" } : Jvm.MethodName) prog_4_method_2_code (3 : Nat) (Option.some (Jvm.ClassFile.FieldType.object "CircuitCells$Course"))) ∈ lw_all := lw_g (lw_at lw_m10 32 rfl) rfl
theorem q2976 : (Jvm.Cond.castable "CircuitCells$Course" "java/lang/Object") ∈ lw_tbl := lw_at lw_m12 221 rfl

abbrev cX3_init : ByteArray := prog_19_method_1_code
def yX3_init : MethodName := ⟨RX3, "<init>", "()V"⟩
def dkwX3_init_0 : List UInt8 := [42, 183, 0, 1, 42, 184, 0, 7, 190, 188, 10, 181, 0, 13, 177]
abbrev dktX3_init_0 : List UInt8 := dkwX3_init_0 ++ []
theorem dksX3_init_0 : cX3_init.data.toList.drop 0 = dktX3_init_0 := by decide +kernel
theorem dX3_init_0 : decode cX3_init 0 = .ok (.aload_n 0, 1) := dk_42 (dk_at dksX3_init_0 0 rfl rfl)
theorem dX3_init_1 : decode cX3_init 1 = .ok (.invokespecial 1, 3) := dk_183 0 1 (dk_at dksX3_init_0 1 rfl rfl)
theorem dX3_init_4 : decode cX3_init 4 = .ok (.aload_n 0, 1) := dk_42 (dk_at dksX3_init_0 4 rfl rfl)
theorem dX3_init_5 : decode cX3_init 5 = .ok (.invokestatic 7, 3) := dk_184 0 7 (dk_at dksX3_init_0 5 rfl rfl)
theorem dX3_init_8 : decode cX3_init 8 = .ok (.arraylength, 1) := dk_190 (dk_at dksX3_init_0 8 rfl rfl)
theorem dX3_init_9 : decode cX3_init 9 = .ok (.newarray .int, 2) := dk_188_10 (dk_at dksX3_init_0 9 rfl rfl)
theorem dX3_init_11 : decode cX3_init 11 = .ok (.putfield 13, 3) := dk_181 0 13 (dk_at dksX3_init_0 11 rfl rfl)
theorem dX3_init_14 : decode cX3_init 14 = .ok (.return_, 1) := dk_177 (dk_at dksX3_init_0 14 rfl rfl)
abbrev cX3_sees : ByteArray := prog_19_method_2_code
def yX3_sees : MethodName := ⟨RX3, "sees", "(LCircuitCells$Value;I)V"⟩
def dkwX3_sees_0 : List UInt8 := [42, 180, 0, 13, 43, 182, 0, 19, 28, 79, 177]
abbrev dktX3_sees_0 : List UInt8 := dkwX3_sees_0 ++ []
theorem dksX3_sees_0 : cX3_sees.data.toList.drop 0 = dktX3_sees_0 := by decide +kernel
theorem dX3_sees_0 : decode cX3_sees 0 = .ok (.aload_n 0, 1) := dk_42 (dk_at dksX3_sees_0 0 rfl rfl)
theorem dX3_sees_1 : decode cX3_sees 1 = .ok (.getfield 13, 3) := dk_180 0 13 (dk_at dksX3_sees_0 1 rfl rfl)
theorem dX3_sees_4 : decode cX3_sees 4 = .ok (.aload_n 1, 1) := dk_43 (dk_at dksX3_sees_0 4 rfl rfl)
theorem dX3_sees_5 : decode cX3_sees 5 = .ok (.invokevirtual 19, 3) := dk_182 0 19 (dk_at dksX3_sees_0 5 rfl rfl)
theorem dX3_sees_8 : decode cX3_sees 8 = .ok (.iload_n 2, 1) := dk_28 (dk_at dksX3_sees_0 8 rfl rfl)
theorem dX3_sees_9 : decode cX3_sees 9 = .ok (.iastore, 1) := dk_79 (dk_at dksX3_sees_0 9 rfl rfl)
theorem dX3_sees_10 : decode cX3_sees 10 = .ok (.return_, 1) := dk_177 (dk_at dksX3_sees_0 10 rfl rfl)
theorem q137 : (Jvm.Cond.initialized "CircuitCells$View") ∈ lw_all := lw_g (lw_at lw_m1 22 rfl) rfl
theorem q536 : (Jvm.Cond.instantiable "CircuitCells$View" (1 : Nat)) ∈ lw_all := lw_g (lw_at lw_m2 181 rfl) rfl
theorem q538 : (Jvm.Cond.instanceMethod ({ cls := "CircuitCells$View", name := "<init>", desc := "()V" } : Jvm.MethodName)) ∈ lw_all := lw_g (lw_at lw_m2 183 rfl) rfl
theorem q539 : (Jvm.Cond.code ({ cls := "CircuitCells$View", name := "<init>", desc := "()V" } : Jvm.MethodName) prog_19_method_1_code (1 : Nat) (Option.none : Option Jvm.ClassFile.FieldType)) ∈ lw_all := lw_g (lw_at lw_m2 184 rfl) rfl
theorem q540 : (Jvm.Cond.methodLink "CircuitCells$View" (1 : Nat) ({ cls := "java/lang/Object", name := "<init>", desc := "()V" } : Jvm.MethodName)) ∈ lw_all := lw_g (lw_at lw_m2 185 rfl) rfl
theorem q541 : (Jvm.Cond.methodLink "CircuitCells$View" (7 : Nat) ({ cls := "CircuitCells$Value", name := "values", desc := "()[LCircuitCells$Value;" } : Jvm.MethodName)) ∈ lw_all := lw_g (lw_at lw_m2 186 rfl) rfl
theorem q552 : (Jvm.Cond.fieldLink "CircuitCells$View" (13 : Nat) "CircuitCells$View" "of" "[I") ∈ lw_all := lw_g (lw_at lw_m2 197 rfl) rfl
theorem q554 : (Jvm.Cond.laysFinal "CircuitCells$View" "CircuitCells$View" "of" "[I") ∈ lw_all := lw_g (lw_at lw_m2 199 rfl) rfl
theorem q555 : (Jvm.Cond.soleField "CircuitCells$View" "of") ∈ lw_all := lw_g (lw_at lw_m2 200 rfl) rfl
theorem q556 : (Jvm.Cond.superclass "CircuitCells$View" "java/lang/Object") ∈ lw_all := lw_g (lw_at lw_m2 201 rfl) rfl
theorem q866 : (Jvm.Cond.selects "CircuitCells$View" ({ cls := "java/lang/Object", name := "getClass", desc := "()Ljava/lang/Class;" } : Jvm.MethodName) ({ cls := "java/lang/Object", name := "getClass", desc := "()Ljava/lang/Class;" } : Jvm.MethodName)) ∈ lw_all := lw_g (lw_at lw_m4 31 rfl) rfl
theorem q1176 : (Jvm.Cond.instanceMethod ({ cls := "CircuitCells$View", name := "sees", desc := "(LCircuitCells$Value;I)V" } : Jvm.MethodName)) ∈ lw_all := lw_g (lw_at lw_m5 101 rfl) rfl
theorem q1177 : (Jvm.Cond.selects "CircuitCells$View" ({ cls := "CircuitCells$View", name := "sees", desc := "(LCircuitCells$Value;I)V" } : Jvm.MethodName) ({ cls := "CircuitCells$View", name := "sees", desc := "(LCircuitCells$Value;I)V" } : Jvm.MethodName)) ∈ lw_all := lw_g (lw_at lw_m5 102 rfl) rfl
theorem q1178 : (Jvm.Cond.code ({ cls := "CircuitCells$View", name := "sees", desc := "(LCircuitCells$Value;I)V" } : Jvm.MethodName) prog_19_method_2_code (3 : Nat) (Option.none : Option Jvm.ClassFile.FieldType)) ∈ lw_all := lw_g (lw_at lw_m5 103 rfl) rfl
theorem q1179 : (Jvm.Cond.methodLink "CircuitCells$View" (19 : Nat) ({ cls := "CircuitCells$Value", name := "ordinal", desc := "()I" } : Jvm.MethodName)) ∈ lw_all := lw_g (lw_at lw_m5 104 rfl) rfl
theorem q2971 : (Jvm.Cond.castable "CircuitCells$View" "java/lang/Object") ∈ lw_tbl := lw_at lw_m12 216 rfl

abbrev cX2_init : ByteArray := prog_9_method_1_code
def yX2_init : MethodName := ⟨RX2, "<init>", "()V"⟩
def dkwX2_init_2 : List UInt8 := [181, 0, 35, 42, 187, 0, 39, 89, 183, 0, 41, 181, 0, 42, 177]
abbrev dktX2_init_2 : List UInt8 := dkwX2_init_2 ++ []
def dkwX2_init_1 : List UInt8 := [181, 0, 21, 42, 16, 8, 181, 0, 24, 42, 4, 181, 0, 27, 42, 187, 0, 30, 89, 4, 183, 0, 32]
abbrev dktX2_init_1 : List UInt8 := dkwX2_init_1 ++ dktX2_init_2
def dkwX2_init_0 : List UInt8 := [42, 183, 0, 3, 42, 7, 181, 0, 9, 42, 16, 12, 181, 0, 15, 42, 7, 181, 0, 18, 42, 4]
abbrev dktX2_init_0 : List UInt8 := dkwX2_init_0 ++ dktX2_init_1
theorem dksX2_init_0 : cX2_init.data.toList.drop 0 = dktX2_init_0 := by decide +kernel
theorem dksX2_init_1 : cX2_init.data.toList.drop 22 = dktX2_init_1 := dk_seg dksX2_init_0 22 rfl rfl
theorem dksX2_init_2 : cX2_init.data.toList.drop 45 = dktX2_init_2 := dk_seg dksX2_init_1 23 rfl rfl
theorem dX2_init_0 : decode cX2_init 0 = .ok (.aload_n 0, 1) := dk_42 (dk_at dksX2_init_0 0 rfl rfl)
theorem dX2_init_1 : decode cX2_init 1 = .ok (.invokespecial 3, 3) := dk_183 0 3 (dk_at dksX2_init_0 1 rfl rfl)
theorem dX2_init_4 : decode cX2_init 4 = .ok (.aload_n 0, 1) := dk_42 (dk_at dksX2_init_0 4 rfl rfl)
theorem dX2_init_5 : decode cX2_init 5 = .ok (.iconst 4, 1) := dk_7 (dk_at dksX2_init_0 5 rfl rfl)
theorem dX2_init_6 : decode cX2_init 6 = .ok (.putfield 9, 3) := dk_181 0 9 (dk_at dksX2_init_0 6 rfl rfl)
theorem dX2_init_9 : decode cX2_init 9 = .ok (.aload_n 0, 1) := dk_42 (dk_at dksX2_init_0 9 rfl rfl)
theorem dX2_init_10 : decode cX2_init 10 = .ok (.bipush 12, 2) := dk_16 12 (dk_at dksX2_init_0 10 rfl rfl)
theorem dX2_init_12 : decode cX2_init 12 = .ok (.putfield 15, 3) := dk_181 0 15 (dk_at dksX2_init_0 12 rfl rfl)
theorem dX2_init_15 : decode cX2_init 15 = .ok (.aload_n 0, 1) := dk_42 (dk_at dksX2_init_0 15 rfl rfl)
theorem dX2_init_16 : decode cX2_init 16 = .ok (.iconst 4, 1) := dk_7 (dk_at dksX2_init_0 16 rfl rfl)
theorem dX2_init_17 : decode cX2_init 17 = .ok (.putfield 18, 3) := dk_181 0 18 (dk_at dksX2_init_0 17 rfl rfl)
theorem dX2_init_20 : decode cX2_init 20 = .ok (.aload_n 0, 1) := dk_42 (dk_at dksX2_init_0 20 rfl rfl)
theorem dX2_init_21 : decode cX2_init 21 = .ok (.iconst 1, 1) := dk_4 (dk_at dksX2_init_0 21 rfl rfl)
theorem dX2_init_22 : decode cX2_init 22 = .ok (.putfield 21, 3) := dk_181 0 21 (dk_at dksX2_init_1 0 rfl rfl)
theorem dX2_init_25 : decode cX2_init 25 = .ok (.aload_n 0, 1) := dk_42 (dk_at dksX2_init_1 3 rfl rfl)
theorem dX2_init_26 : decode cX2_init 26 = .ok (.bipush 8, 2) := dk_16 8 (dk_at dksX2_init_1 4 rfl rfl)
theorem dX2_init_28 : decode cX2_init 28 = .ok (.putfield 24, 3) := dk_181 0 24 (dk_at dksX2_init_1 6 rfl rfl)
theorem dX2_init_31 : decode cX2_init 31 = .ok (.aload_n 0, 1) := dk_42 (dk_at dksX2_init_1 9 rfl rfl)
theorem dX2_init_32 : decode cX2_init 32 = .ok (.iconst 1, 1) := dk_4 (dk_at dksX2_init_1 10 rfl rfl)
theorem dX2_init_33 : decode cX2_init 33 = .ok (.putfield 27, 3) := dk_181 0 27 (dk_at dksX2_init_1 11 rfl rfl)
theorem dX2_init_36 : decode cX2_init 36 = .ok (.aload_n 0, 1) := dk_42 (dk_at dksX2_init_1 14 rfl rfl)
theorem dX2_init_37 : decode cX2_init 37 = .ok (.new 30, 3) := dk_187 0 30 (dk_at dksX2_init_1 15 rfl rfl)
theorem dX2_init_40 : decode cX2_init 40 = .ok (.dup, 1) := dk_89 (dk_at dksX2_init_1 18 rfl rfl)
theorem dX2_init_41 : decode cX2_init 41 = .ok (.iconst 1, 1) := dk_4 (dk_at dksX2_init_1 19 rfl rfl)
theorem dX2_init_42 : decode cX2_init 42 = .ok (.invokespecial 32, 3) := dk_183 0 32 (dk_at dksX2_init_1 20 rfl rfl)
theorem dX2_init_45 : decode cX2_init 45 = .ok (.putfield 35, 3) := dk_181 0 35 (dk_at dksX2_init_2 0 rfl rfl)
theorem dX2_init_48 : decode cX2_init 48 = .ok (.aload_n 0, 1) := dk_42 (dk_at dksX2_init_2 3 rfl rfl)
theorem dX2_init_49 : decode cX2_init 49 = .ok (.new 39, 3) := dk_187 0 39 (dk_at dksX2_init_2 4 rfl rfl)
theorem dX2_init_52 : decode cX2_init 52 = .ok (.dup, 1) := dk_89 (dk_at dksX2_init_2 7 rfl rfl)
theorem dX2_init_53 : decode cX2_init 53 = .ok (.invokespecial 41, 3) := dk_183 0 41 (dk_at dksX2_init_2 8 rfl rfl)
theorem dX2_init_56 : decode cX2_init 56 = .ok (.putfield 42, 3) := dk_181 0 42 (dk_at dksX2_init_2 11 rfl rfl)
theorem dX2_init_59 : decode cX2_init 59 = .ok (.return_, 1) := dk_177 (dk_at dksX2_init_2 14 rfl rfl)
abbrev cX2_octet : ByteArray := prog_9_method_2_code
def yX2_octet : MethodName := ⟨RX2, "octet", "(I)I"⟩
def dkwX2_octet_1 : List UInt8 := [182, 0, 50, 112, 182, 0, 53, 192, 0, 57, 182, 0, 59, 27, 96, 17, 1, 0, 112, 172]
abbrev dktX2_octet_1 : List UInt8 := dkwX2_octet_1 ++ []
def dkwX2_octet_0 : List UInt8 := [42, 180, 0, 35, 182, 0, 46, 153, 0, 8, 16, 85, 167, 0, 25, 42, 180, 0, 35, 27, 42, 180, 0, 35]
abbrev dktX2_octet_0 : List UInt8 := dkwX2_octet_0 ++ dktX2_octet_1
theorem dksX2_octet_0 : cX2_octet.data.toList.drop 0 = dktX2_octet_0 := by decide +kernel
theorem dksX2_octet_1 : cX2_octet.data.toList.drop 24 = dktX2_octet_1 := dk_seg dksX2_octet_0 24 rfl rfl
theorem dX2_octet_0 : decode cX2_octet 0 = .ok (.aload_n 0, 1) := dk_42 (dk_at dksX2_octet_0 0 rfl rfl)
theorem dX2_octet_1 : decode cX2_octet 1 = .ok (.getfield 35, 3) := dk_180 0 35 (dk_at dksX2_octet_0 1 rfl rfl)
theorem dX2_octet_4 : decode cX2_octet 4 = .ok (.invokevirtual 46, 3) := dk_182 0 46 (dk_at dksX2_octet_0 4 rfl rfl)
theorem dX2_octet_7 : decode cX2_octet 7 = .ok (.ifCond .eq 8, 3) := dk_153 0 8 (dk_at dksX2_octet_0 7 rfl rfl)
theorem dX2_octet_10 : decode cX2_octet 10 = .ok (.bipush 85, 2) := dk_16 85 (dk_at dksX2_octet_0 10 rfl rfl)
theorem dX2_octet_12 : decode cX2_octet 12 = .ok (.goto 25, 3) := dk_167 0 25 (dk_at dksX2_octet_0 12 rfl rfl)
theorem dX2_octet_15 : decode cX2_octet 15 = .ok (.aload_n 0, 1) := dk_42 (dk_at dksX2_octet_0 15 rfl rfl)
theorem dX2_octet_16 : decode cX2_octet 16 = .ok (.getfield 35, 3) := dk_180 0 35 (dk_at dksX2_octet_0 16 rfl rfl)
theorem dX2_octet_19 : decode cX2_octet 19 = .ok (.iload_n 1, 1) := dk_27 (dk_at dksX2_octet_0 19 rfl rfl)
theorem dX2_octet_20 : decode cX2_octet 20 = .ok (.aload_n 0, 1) := dk_42 (dk_at dksX2_octet_0 20 rfl rfl)
theorem dX2_octet_21 : decode cX2_octet 21 = .ok (.getfield 35, 3) := dk_180 0 35 (dk_at dksX2_octet_0 21 rfl rfl)
theorem dX2_octet_24 : decode cX2_octet 24 = .ok (.invokevirtual 50, 3) := dk_182 0 50 (dk_at dksX2_octet_1 0 rfl rfl)
theorem dX2_octet_27 : decode cX2_octet 27 = .ok (.irem, 1) := dk_112 (dk_at dksX2_octet_1 3 rfl rfl)
theorem dX2_octet_28 : decode cX2_octet 28 = .ok (.invokevirtual 53, 3) := dk_182 0 53 (dk_at dksX2_octet_1 4 rfl rfl)
theorem dX2_octet_31 : decode cX2_octet 31 = .ok (.checkcast 57, 3) := dk_192 0 57 (dk_at dksX2_octet_1 7 rfl rfl)
theorem dX2_octet_34 : decode cX2_octet 34 = .ok (.invokevirtual 59, 3) := dk_182 0 59 (dk_at dksX2_octet_1 10 rfl rfl)
theorem dX2_octet_37 : decode cX2_octet 37 = .ok (.iload_n 1, 1) := dk_27 (dk_at dksX2_octet_1 13 rfl rfl)
theorem dX2_octet_38 : decode cX2_octet 38 = .ok (.iadd, 1) := dk_96 (dk_at dksX2_octet_1 14 rfl rfl)
theorem dX2_octet_39 : decode cX2_octet 39 = .ok (.sipush 256, 3) := dk_17 1 0 (dk_at dksX2_octet_1 15 rfl rfl)
theorem dX2_octet_42 : decode cX2_octet 42 = .ok (.irem, 1) := dk_112 (dk_at dksX2_octet_1 18 rfl rfl)
theorem dX2_octet_43 : decode cX2_octet 43 = .ok (.ireturn, 1) := dk_172 (dk_at dksX2_octet_1 19 rfl rfl)
theorem q117 : (Jvm.Cond.initialized "CircuitCells$Line") ∈ lw_all := lw_g (lw_at lw_m1 2 rfl) rfl
theorem q179 : (Jvm.Cond.instantiable "CircuitCells$Line" (11 : Nat)) ∈ lw_all := lw_g (lw_at lw_m1 64 rfl) rfl
theorem q181 : (Jvm.Cond.instanceMethod ({ cls := "CircuitCells$Line", name := "<init>", desc := "()V" } : Jvm.MethodName)) ∈ lw_all := lw_g (lw_at lw_m1 66 rfl) rfl
theorem q182 : (Jvm.Cond.code ({ cls := "CircuitCells$Line", name := "<init>", desc := "()V" } : Jvm.MethodName) prog_9_method_1_code (1 : Nat) (Option.none : Option Jvm.ClassFile.FieldType)) ∈ lw_all := lw_g (lw_at lw_m1 67 rfl) rfl
theorem q183 : (Jvm.Cond.methodLink "CircuitCells$Line" (3 : Nat) ({ cls := "java/lang/Object", name := "<init>", desc := "()V" } : Jvm.MethodName)) ∈ lw_all := lw_g (lw_at lw_m1 68 rfl) rfl
theorem q184 : (Jvm.Cond.classLink "CircuitCells$Line" (30 : Nat) "java/util/ArrayList") ∈ lw_all := lw_g (lw_at lw_m1 69 rfl) rfl
theorem q186 : (Jvm.Cond.methodLink "CircuitCells$Line" (32 : Nat) ({ cls := "java/util/ArrayList", name := "<init>", desc := "(I)V" } : Jvm.MethodName)) ∈ lw_all := lw_g (lw_at lw_m1 71 rfl) rfl
theorem q535 : (Jvm.Cond.classLink "CircuitCells$Line" (39 : Nat) "CircuitCells$View") ∈ lw_all := lw_g (lw_at lw_m2 180 rfl) rfl
theorem q537 : (Jvm.Cond.methodLinkNest "CircuitCells$Line" (41 : Nat) ({ cls := "CircuitCells$View", name := "<init>", desc := "()V" } : Jvm.MethodName) "CircuitCells") ∈ lw_tbl := lw_at lw_m2 182 rfl
theorem q558 : (Jvm.Cond.fieldLink "CircuitCells$Line" (9 : Nat) "CircuitCells$Line" "size" "I") ∈ lw_all := lw_g (lw_at lw_m2 203 rfl) rfl
theorem q562 : (Jvm.Cond.fieldLink "CircuitCells$Line" (15 : Nat) "CircuitCells$Line" "target" "I") ∈ lw_all := lw_g (lw_at lw_m2 207 rfl) rfl
theorem q565 : (Jvm.Cond.fieldLink "CircuitCells$Line" (18 : Nat) "CircuitCells$Line" "gainP" "I") ∈ lw_all := lw_g (lw_at lw_m2 210 rfl) rfl
theorem q568 : (Jvm.Cond.fieldLink "CircuitCells$Line" (21 : Nat) "CircuitCells$Line" "gainI" "I") ∈ lw_all := lw_g (lw_at lw_m2 213 rfl) rfl
theorem q571 : (Jvm.Cond.fieldLink "CircuitCells$Line" (24 : Nat) "CircuitCells$Line" "every" "I") ∈ lw_all := lw_g (lw_at lw_m2 216 rfl) rfl
theorem q577 : (Jvm.Cond.fieldLink "CircuitCells$Line" (27 : Nat) "CircuitCells$Line" "frame" "I") ∈ lw_all := lw_g (lw_at lw_m2 222 rfl) rfl
theorem q580 : (Jvm.Cond.fieldLink "CircuitCells$Line" (35 : Nat) "CircuitCells$Line" "word" "Ljava/util/ArrayList;") ∈ lw_all := lw_g (lw_at lw_m2 225 rfl) rfl
theorem q587 : (Jvm.Cond.fieldLink "CircuitCells$Line" (42 : Nat) "CircuitCells$Line" "view" "LCircuitCells$View;") ∈ lw_all := lw_g (lw_at lw_m2 232 rfl) rfl
theorem q589 : (Jvm.Cond.lays "CircuitCells$Line" "CircuitCells$Line" "size" "I") ∈ lw_all := lw_g (lw_at lw_m2 234 rfl) rfl
theorem q590 : (Jvm.Cond.soleField "CircuitCells$Line" "size") ∈ lw_all := lw_g (lw_at lw_m2 235 rfl) rfl
theorem q591 : (Jvm.Cond.lays "CircuitCells$Line" "CircuitCells$Line" "target" "I") ∈ lw_all := lw_g (lw_at lw_m2 236 rfl) rfl
theorem q592 : (Jvm.Cond.soleField "CircuitCells$Line" "target") ∈ lw_all := lw_g (lw_at lw_m2 237 rfl) rfl
theorem q593 : (Jvm.Cond.lays "CircuitCells$Line" "CircuitCells$Line" "gainP" "I") ∈ lw_all := lw_g (lw_at lw_m2 238 rfl) rfl
theorem q594 : (Jvm.Cond.soleField "CircuitCells$Line" "gainP") ∈ lw_all := lw_g (lw_at lw_m2 239 rfl) rfl
theorem q595 : (Jvm.Cond.lays "CircuitCells$Line" "CircuitCells$Line" "gainI" "I") ∈ lw_all := lw_g (lw_at lw_m3 0 rfl) rfl
theorem q596 : (Jvm.Cond.soleField "CircuitCells$Line" "gainI") ∈ lw_all := lw_g (lw_at lw_m3 1 rfl) rfl
theorem q597 : (Jvm.Cond.lays "CircuitCells$Line" "CircuitCells$Line" "every" "I") ∈ lw_all := lw_g (lw_at lw_m3 2 rfl) rfl
theorem q598 : (Jvm.Cond.soleField "CircuitCells$Line" "every") ∈ lw_all := lw_g (lw_at lw_m3 3 rfl) rfl
theorem q599 : (Jvm.Cond.lays "CircuitCells$Line" "CircuitCells$Line" "offset" "I") ∈ lw_all := lw_g (lw_at lw_m3 4 rfl) rfl
theorem q600 : (Jvm.Cond.soleField "CircuitCells$Line" "offset") ∈ lw_all := lw_g (lw_at lw_m3 5 rfl) rfl
theorem q601 : (Jvm.Cond.lays "CircuitCells$Line" "CircuitCells$Line" "frame" "I") ∈ lw_all := lw_g (lw_at lw_m3 6 rfl) rfl
theorem q602 : (Jvm.Cond.soleField "CircuitCells$Line" "frame") ∈ lw_all := lw_g (lw_at lw_m3 7 rfl) rfl
theorem q603 : (Jvm.Cond.laysFinal "CircuitCells$Line" "CircuitCells$Line" "word" "Ljava/util/ArrayList;") ∈ lw_all := lw_g (lw_at lw_m3 8 rfl) rfl
theorem q604 : (Jvm.Cond.soleField "CircuitCells$Line" "word") ∈ lw_all := lw_g (lw_at lw_m3 9 rfl) rfl
theorem q605 : (Jvm.Cond.lays "CircuitCells$Line" "CircuitCells$Line" "delay" "LCircuitCells$Expr;") ∈ lw_all := lw_g (lw_at lw_m3 10 rfl) rfl
theorem q606 : (Jvm.Cond.soleField "CircuitCells$Line" "delay") ∈ lw_all := lw_g (lw_at lw_m3 11 rfl) rfl
theorem q607 : (Jvm.Cond.lays "CircuitCells$Line" "CircuitCells$Line" "lost" "LCircuitCells$Expr;") ∈ lw_all := lw_g (lw_at lw_m3 12 rfl) rfl
theorem q608 : (Jvm.Cond.soleField "CircuitCells$Line" "lost") ∈ lw_all := lw_g (lw_at lw_m3 13 rfl) rfl
theorem q609 : (Jvm.Cond.laysFinal "CircuitCells$Line" "CircuitCells$Line" "view" "LCircuitCells$View;") ∈ lw_all := lw_g (lw_at lw_m3 14 rfl) rfl
theorem q610 : (Jvm.Cond.soleField "CircuitCells$Line" "view") ∈ lw_all := lw_g (lw_at lw_m3 15 rfl) rfl
theorem q611 : (Jvm.Cond.superclass "CircuitCells$Line" "java/lang/Object") ∈ lw_all := lw_g (lw_at lw_m3 16 rfl) rfl
theorem q857 : (Jvm.Cond.selects "CircuitCells$Line" ({ cls := "java/lang/Object", name := "getClass", desc := "()Ljava/lang/Class;" } : Jvm.MethodName) ({ cls := "java/lang/Object", name := "getClass", desc := "()Ljava/lang/Class;" } : Jvm.MethodName)) ∈ lw_all := lw_g (lw_at lw_m4 22 rfl) rfl
theorem q1260 : (Jvm.Cond.instanceMethod ({ cls := "CircuitCells$Line", name := "octet", desc := "(I)I" } : Jvm.MethodName)) ∈ lw_all := lw_g (lw_at lw_m5 185 rfl) rfl
theorem q1261 : (Jvm.Cond.selects "CircuitCells$Line" ({ cls := "CircuitCells$Line", name := "octet", desc := "(I)I" } : Jvm.MethodName) ({ cls := "CircuitCells$Line", name := "octet", desc := "(I)I" } : Jvm.MethodName)) ∈ lw_all := lw_g (lw_at lw_m5 186 rfl) rfl
theorem q1262 : (Jvm.Cond.code ({ cls := "CircuitCells$Line", name := "octet", desc := "(I)I" } : Jvm.MethodName) prog_9_method_2_code (2 : Nat) (Option.some Jvm.ClassFile.FieldType.int)) ∈ lw_all := lw_g (lw_at lw_m5 187 rfl) rfl
theorem q1263 : (Jvm.Cond.methodLink "CircuitCells$Line" (46 : Nat) ({ cls := "java/util/ArrayList", name := "isEmpty", desc := "()Z" } : Jvm.MethodName)) ∈ lw_all := lw_g (lw_at lw_m5 188 rfl) rfl
theorem q1267 : (Jvm.Cond.methodLink "CircuitCells$Line" (50 : Nat) ({ cls := "java/util/ArrayList", name := "size", desc := "()I" } : Jvm.MethodName)) ∈ lw_all := lw_g (lw_at lw_m5 192 rfl) rfl
theorem q1271 : (Jvm.Cond.methodLink "CircuitCells$Line" (53 : Nat) ({ cls := "java/util/ArrayList", name := "get", desc := "(I)Ljava/lang/Object;" } : Jvm.MethodName)) ∈ lw_all := lw_g (lw_at lw_m5 196 rfl) rfl
theorem q1272 : (Jvm.Cond.classLink "CircuitCells$Line" (57 : Nat) "java/lang/Integer") ∈ lw_all := lw_g (lw_at lw_m5 197 rfl) rfl
theorem q1273 : (Jvm.Cond.methodLink "CircuitCells$Line" (59 : Nat) ({ cls := "java/lang/Integer", name := "intValue", desc := "()I" } : Jvm.MethodName)) ∈ lw_all := lw_g (lw_at lw_m5 198 rfl) rfl
theorem q2967 : (Jvm.Cond.castable "CircuitCells$Line" "java/lang/Object") ∈ lw_tbl := lw_at lw_m12 212 rfl

/-! CircuitCells$Value -/
set_option maxRecDepth 100000
def RX4 : String := "CircuitCells$Value"
abbrev cX4_values : ByteArray := prog_18_method_1_code
def yX4_values : MethodName := ⟨RX4, "values", "()[LCircuitCells$Value;"⟩
def dkwX4_values_0 : List UInt8 := [178, 0, 16, 182, 0, 20, 192, 0, 21, 176]
abbrev dktX4_values_0 : List UInt8 := dkwX4_values_0 ++ []
theorem dksX4_values_0 : cX4_values.data.toList.drop 0 = dktX4_values_0 := by decide +kernel
theorem dX4_values_0 : decode cX4_values 0 = .ok (.getstatic 16, 3) := dk_178 0 16 (dk_at dksX4_values_0 0 rfl rfl)
theorem dX4_values_3 : decode cX4_values 3 = .ok (.invokevirtual 20, 3) := dk_182 0 20 (dk_at dksX4_values_0 3 rfl rfl)
theorem dX4_values_6 : decode cX4_values 6 = .ok (.checkcast 21, 3) := dk_192 0 21 (dk_at dksX4_values_0 6 rfl rfl)
theorem dX4_values_9 : decode cX4_values 9 = .ok (.areturn, 1) := dk_176 (dk_at dksX4_values_0 9 rfl rfl)
theorem q139 : (Jvm.Cond.initialized "CircuitCells$Value") ∈ lw_all := lw_g (lw_at lw_m1 24 rfl) rfl
theorem q542 : (Jvm.Cond.static ({ cls := "CircuitCells$Value", name := "values", desc := "()[LCircuitCells$Value;" } : Jvm.MethodName)) ∈ lw_all := lw_g (lw_at lw_m2 187 rfl) rfl
theorem q543 : (Jvm.Cond.code ({ cls := "CircuitCells$Value", name := "values", desc := "()[LCircuitCells$Value;" } : Jvm.MethodName) prog_18_method_1_code (0 : Nat) (Option.some (Jvm.ClassFile.FieldType.array (Jvm.ClassFile.FieldType.object "CircuitCells$Value")))) ∈ lw_all := lw_g (lw_at lw_m2 188 rfl) rfl
theorem q544 : (Jvm.Cond.fieldLink "CircuitCells$Value" (16 : Nat) "CircuitCells$Value" "$VALUES" "[LCircuitCells$Value;") ∈ lw_all := lw_g (lw_at lw_m2 189 rfl) rfl
theorem q545 : (Jvm.Cond.laysStatic "CircuitCells$Value" "$VALUES" "[LCircuitCells$Value;") ∈ lw_tbl := lw_at lw_m2 190 rfl
theorem q546 : (Jvm.Cond.methodLink "CircuitCells$Value" (20 : Nat) ({ cls := "[LCircuitCells$Value;", name := "clone", desc := "()Ljava/lang/Object;" } : Jvm.MethodName)) ∈ lw_all := lw_g (lw_at lw_m2 191 rfl) rfl
theorem q551 : (Jvm.Cond.classLink "CircuitCells$Value" (21 : Nat) "[LCircuitCells$Value;") ∈ lw_all := lw_g (lw_at lw_m2 196 rfl) rfl
theorem q865 : (Jvm.Cond.selects "CircuitCells$Value" ({ cls := "java/lang/Object", name := "getClass", desc := "()Ljava/lang/Class;" } : Jvm.MethodName) ({ cls := "java/lang/Object", name := "getClass", desc := "()Ljava/lang/Class;" } : Jvm.MethodName)) ∈ lw_all := lw_g (lw_at lw_m4 30 rfl) rfl
theorem q1174 : (Jvm.Cond.laysStatic "CircuitCells$Value" "PACKET" "LCircuitCells$Value;") ∈ lw_tbl := lw_at lw_m5 99 rfl
theorem q1180 : (Jvm.Cond.sameMethod "CircuitCells$Value" "java/lang/Enum" "ordinal" "()I") ∈ lw_all := lw_g (lw_at lw_m5 105 rfl) rfl
theorem q1182 : (Jvm.Cond.selects "CircuitCells$Value" ({ cls := "CircuitCells$Value", name := "ordinal", desc := "()I" } : Jvm.MethodName) ({ cls := "java/lang/Enum", name := "ordinal", desc := "()I" } : Jvm.MethodName)) ∈ lw_all := lw_g (lw_at lw_m5 107 rfl) rfl
theorem q1186 : (Jvm.Cond.laysStatic "CircuitCells$Value" "TIME" "LCircuitCells$Value;") ∈ lw_tbl := lw_at lw_m5 111 rfl
theorem q1188 : (Jvm.Cond.laysStatic "CircuitCells$Value" "LAST" "LCircuitCells$Value;") ∈ lw_tbl := lw_at lw_m5 113 rfl
theorem q1190 : (Jvm.Cond.laysStatic "CircuitCells$Value" "FLYING" "LCircuitCells$Value;") ∈ lw_tbl := lw_at lw_m5 115 rfl
theorem q2964 : (Jvm.Cond.castable "CircuitCells$Value" "java/lang/Object") ∈ lw_tbl := lw_at lw_m12 209 rfl

abbrev cJ19_init : ByteArray := prog_59_method_5_code
def yJ19_init : MethodName := ⟨RJ19, "<init>", "(I)V"⟩
def dkwJ19_init_2 : List UInt8 := [27, 182, 0, 27, 42, 4, 181, 0, 24, 177]
abbrev dktJ19_init_2 : List UInt8 := dkwJ19_init_2 ++ []
def dkwJ19_init_1 : List UInt8 := [187, 0, 33, 89, 183, 0, 35, 18, 36, 182, 0, 38, 27, 182, 0, 42, 182, 0, 45, 183, 0, 49, 191, 42]
abbrev dktJ19_init_1 : List UInt8 := dkwJ19_init_1 ++ dktJ19_init_2
def dkwJ19_init_0 : List UInt8 := [42, 183, 0, 21, 42, 3, 181, 0, 7, 42, 3, 181, 0, 24, 27, 156, 0, 30, 187, 0, 31, 89]
abbrev dktJ19_init_0 : List UInt8 := dkwJ19_init_0 ++ dktJ19_init_1
theorem dksJ19_init_0 : cJ19_init.data.toList.drop 0 = dktJ19_init_0 := by decide +kernel
theorem dksJ19_init_1 : cJ19_init.data.toList.drop 22 = dktJ19_init_1 := dk_seg dksJ19_init_0 22 rfl rfl
theorem dksJ19_init_2 : cJ19_init.data.toList.drop 46 = dktJ19_init_2 := dk_seg dksJ19_init_1 24 rfl rfl
theorem dJ19_init_0 : decode cJ19_init 0 = .ok (.aload_n 0, 1) := dk_42 (dk_at dksJ19_init_0 0 rfl rfl)
theorem dJ19_init_1 : decode cJ19_init 1 = .ok (.invokespecial 21, 3) := dk_183 0 21 (dk_at dksJ19_init_0 1 rfl rfl)
theorem dJ19_init_4 : decode cJ19_init 4 = .ok (.aload_n 0, 1) := dk_42 (dk_at dksJ19_init_0 4 rfl rfl)
theorem dJ19_init_5 : decode cJ19_init 5 = .ok (.iconst 0, 1) := dk_3 (dk_at dksJ19_init_0 5 rfl rfl)
theorem dJ19_init_6 : decode cJ19_init 6 = .ok (.putfield 7, 3) := dk_181 0 7 (dk_at dksJ19_init_0 6 rfl rfl)
theorem dJ19_init_9 : decode cJ19_init 9 = .ok (.aload_n 0, 1) := dk_42 (dk_at dksJ19_init_0 9 rfl rfl)
theorem dJ19_init_10 : decode cJ19_init 10 = .ok (.iconst 0, 1) := dk_3 (dk_at dksJ19_init_0 10 rfl rfl)
theorem dJ19_init_11 : decode cJ19_init 11 = .ok (.putfield 24, 3) := dk_181 0 24 (dk_at dksJ19_init_0 11 rfl rfl)
theorem dJ19_init_14 : decode cJ19_init 14 = .ok (.iload_n 1, 1) := dk_27 (dk_at dksJ19_init_0 14 rfl rfl)
theorem dJ19_init_15 : decode cJ19_init 15 = .ok (.ifCond .ge 30, 3) := dk_156 0 30 (dk_at dksJ19_init_0 15 rfl rfl)
theorem dJ19_init_18 : decode cJ19_init 18 = .ok (.new 31, 3) := dk_187 0 31 (dk_at dksJ19_init_0 18 rfl rfl)
theorem dJ19_init_21 : decode cJ19_init 21 = .ok (.dup, 1) := dk_89 (dk_at dksJ19_init_0 21 rfl rfl)
theorem dJ19_init_22 : decode cJ19_init 22 = .ok (.new 33, 3) := dk_187 0 33 (dk_at dksJ19_init_1 0 rfl rfl)
theorem dJ19_init_25 : decode cJ19_init 25 = .ok (.dup, 1) := dk_89 (dk_at dksJ19_init_1 3 rfl rfl)
theorem dJ19_init_26 : decode cJ19_init 26 = .ok (.invokespecial 35, 3) := dk_183 0 35 (dk_at dksJ19_init_1 4 rfl rfl)
theorem dJ19_init_29 : decode cJ19_init 29 = .ok (.ldc 36, 2) := dk_18 36 (dk_at dksJ19_init_1 7 rfl rfl)
theorem dJ19_init_31 : decode cJ19_init 31 = .ok (.invokevirtual 38, 3) := dk_182 0 38 (dk_at dksJ19_init_1 9 rfl rfl)
theorem dJ19_init_34 : decode cJ19_init 34 = .ok (.iload_n 1, 1) := dk_27 (dk_at dksJ19_init_1 12 rfl rfl)
theorem dJ19_init_35 : decode cJ19_init 35 = .ok (.invokevirtual 42, 3) := dk_182 0 42 (dk_at dksJ19_init_1 13 rfl rfl)
theorem dJ19_init_38 : decode cJ19_init 38 = .ok (.invokevirtual 45, 3) := dk_182 0 45 (dk_at dksJ19_init_1 16 rfl rfl)
theorem dJ19_init_41 : decode cJ19_init 41 = .ok (.invokespecial 49, 3) := dk_183 0 49 (dk_at dksJ19_init_1 19 rfl rfl)
theorem dJ19_init_44 : decode cJ19_init 44 = .ok (.athrow, 1) := dk_191 (dk_at dksJ19_init_1 22 rfl rfl)
theorem dJ19_init_45 : decode cJ19_init 45 = .ok (.aload_n 0, 1) := dk_42 (dk_at dksJ19_init_1 23 rfl rfl)
theorem dJ19_init_46 : decode cJ19_init 46 = .ok (.iload_n 1, 1) := dk_27 (dk_at dksJ19_init_2 0 rfl rfl)
theorem dJ19_init_47 : decode cJ19_init 47 = .ok (.invokevirtual 27, 3) := dk_182 0 27 (dk_at dksJ19_init_2 1 rfl rfl)
theorem dJ19_init_50 : decode cJ19_init 50 = .ok (.aload_n 0, 1) := dk_42 (dk_at dksJ19_init_2 4 rfl rfl)
theorem dJ19_init_51 : decode cJ19_init 51 = .ok (.iconst 1, 1) := dk_4 (dk_at dksJ19_init_2 5 rfl rfl)
theorem dJ19_init_52 : decode cJ19_init 52 = .ok (.putfield 24, 3) := dk_181 0 24 (dk_at dksJ19_init_2 6 rfl rfl)
theorem dJ19_init_55 : decode cJ19_init 55 = .ok (.return_, 1) := dk_177 (dk_at dksJ19_init_2 9 rfl rfl)
abbrev cJ19_initWords : ByteArray := prog_59_method_6_code
def yJ19_initWords : MethodName := ⟨RJ19, "initWords", "(I)V"⟩
def dkwJ19_initWords_0 : List UInt8 := [42, 27, 4, 100, 184, 0, 52, 4, 96, 188, 11, 181, 0, 11, 177]
abbrev dktJ19_initWords_0 : List UInt8 := dkwJ19_initWords_0 ++ []
theorem dksJ19_initWords_0 : cJ19_initWords.data.toList.drop 0 = dktJ19_initWords_0 := by decide +kernel
theorem dJ19_initWords_0 : decode cJ19_initWords 0 = .ok (.aload_n 0, 1) := dk_42 (dk_at dksJ19_initWords_0 0 rfl rfl)
theorem dJ19_initWords_1 : decode cJ19_initWords 1 = .ok (.iload_n 1, 1) := dk_27 (dk_at dksJ19_initWords_0 1 rfl rfl)
theorem dJ19_initWords_2 : decode cJ19_initWords 2 = .ok (.iconst 1, 1) := dk_4 (dk_at dksJ19_initWords_0 2 rfl rfl)
theorem dJ19_initWords_3 : decode cJ19_initWords 3 = .ok (.isub, 1) := dk_100 (dk_at dksJ19_initWords_0 3 rfl rfl)
theorem dJ19_initWords_4 : decode cJ19_initWords 4 = .ok (.invokestatic 52, 3) := dk_184 0 52 (dk_at dksJ19_initWords_0 4 rfl rfl)
theorem dJ19_initWords_7 : decode cJ19_initWords 7 = .ok (.iconst 1, 1) := dk_4 (dk_at dksJ19_initWords_0 7 rfl rfl)
theorem dJ19_initWords_8 : decode cJ19_initWords 8 = .ok (.iadd, 1) := dk_96 (dk_at dksJ19_initWords_0 8 rfl rfl)
theorem dJ19_initWords_9 : decode cJ19_initWords 9 = .ok (.newarray .long, 2) := dk_188_11 (dk_at dksJ19_initWords_0 9 rfl rfl)
theorem dJ19_initWords_11 : decode cJ19_initWords 11 = .ok (.putfield 11, 3) := dk_181 0 11 (dk_at dksJ19_initWords_0 11 rfl rfl)
theorem dJ19_initWords_14 : decode cJ19_initWords 14 = .ok (.return_, 1) := dk_177 (dk_at dksJ19_initWords_0 14 rfl rfl)
abbrev cJ19_wordIndex : ByteArray := prog_59_method_1_code
def yJ19_wordIndex : MethodName := ⟨RJ19, "wordIndex", "(I)I"⟩
def dkwJ19_wordIndex_0 : List UInt8 := [26, 16, 6, 122, 172]
abbrev dktJ19_wordIndex_0 : List UInt8 := dkwJ19_wordIndex_0 ++ []
theorem dksJ19_wordIndex_0 : cJ19_wordIndex.data.toList.drop 0 = dktJ19_wordIndex_0 := by decide +kernel
theorem dJ19_wordIndex_0 : decode cJ19_wordIndex 0 = .ok (.iload_n 0, 1) := dk_26 (dk_at dksJ19_wordIndex_0 0 rfl rfl)
theorem dJ19_wordIndex_1 : decode cJ19_wordIndex 1 = .ok (.bipush 6, 2) := dk_16 6 (dk_at dksJ19_wordIndex_0 1 rfl rfl)
theorem dJ19_wordIndex_3 : decode cJ19_wordIndex 3 = .ok (.ishr, 1) := dk_122 (dk_at dksJ19_wordIndex_0 3 rfl rfl)
theorem dJ19_wordIndex_4 : decode cJ19_wordIndex 4 = .ok (.ireturn, 1) := dk_172 (dk_at dksJ19_wordIndex_0 4 rfl rfl)
abbrev cJ19_clear : ByteArray := prog_59_method_25_code
def yJ19_clear : MethodName := ⟨RJ19, "clear", "()V"⟩
def dkwJ19_clear_1 : List UInt8 := [167, 255, 232, 177]
abbrev dktJ19_clear_1 : List UInt8 := dkwJ19_clear_1 ++ []
def dkwJ19_clear_0 : List UInt8 := [42, 180, 0, 7, 158, 0, 23, 42, 180, 0, 11, 42, 89, 180, 0, 7, 4, 100, 90, 181, 0, 7, 9, 80]
abbrev dktJ19_clear_0 : List UInt8 := dkwJ19_clear_0 ++ dktJ19_clear_1
theorem dksJ19_clear_0 : cJ19_clear.data.toList.drop 0 = dktJ19_clear_0 := by decide +kernel
theorem dksJ19_clear_1 : cJ19_clear.data.toList.drop 24 = dktJ19_clear_1 := dk_seg dksJ19_clear_0 24 rfl rfl
theorem dJ19_clear_0 : decode cJ19_clear 0 = .ok (.aload_n 0, 1) := dk_42 (dk_at dksJ19_clear_0 0 rfl rfl)
theorem dJ19_clear_1 : decode cJ19_clear 1 = .ok (.getfield 7, 3) := dk_180 0 7 (dk_at dksJ19_clear_0 1 rfl rfl)
theorem dJ19_clear_4 : decode cJ19_clear 4 = .ok (.ifCond .le 23, 3) := dk_158 0 23 (dk_at dksJ19_clear_0 4 rfl rfl)
theorem dJ19_clear_7 : decode cJ19_clear 7 = .ok (.aload_n 0, 1) := dk_42 (dk_at dksJ19_clear_0 7 rfl rfl)
theorem dJ19_clear_8 : decode cJ19_clear 8 = .ok (.getfield 11, 3) := dk_180 0 11 (dk_at dksJ19_clear_0 8 rfl rfl)
theorem dJ19_clear_11 : decode cJ19_clear 11 = .ok (.aload_n 0, 1) := dk_42 (dk_at dksJ19_clear_0 11 rfl rfl)
theorem dJ19_clear_12 : decode cJ19_clear 12 = .ok (.dup, 1) := dk_89 (dk_at dksJ19_clear_0 12 rfl rfl)
theorem dJ19_clear_13 : decode cJ19_clear 13 = .ok (.getfield 7, 3) := dk_180 0 7 (dk_at dksJ19_clear_0 13 rfl rfl)
theorem dJ19_clear_16 : decode cJ19_clear 16 = .ok (.iconst 1, 1) := dk_4 (dk_at dksJ19_clear_0 16 rfl rfl)
theorem dJ19_clear_17 : decode cJ19_clear 17 = .ok (.isub, 1) := dk_100 (dk_at dksJ19_clear_0 17 rfl rfl)
theorem dJ19_clear_18 : decode cJ19_clear 18 = .ok (.dup_x1, 1) := dk_90 (dk_at dksJ19_clear_0 18 rfl rfl)
theorem dJ19_clear_19 : decode cJ19_clear 19 = .ok (.putfield 7, 3) := dk_181 0 7 (dk_at dksJ19_clear_0 19 rfl rfl)
theorem dJ19_clear_22 : decode cJ19_clear 22 = .ok (.lconst 0, 1) := dk_9 (dk_at dksJ19_clear_0 22 rfl rfl)
theorem dJ19_clear_23 : decode cJ19_clear 23 = .ok (.lastore, 1) := dk_80 (dk_at dksJ19_clear_0 23 rfl rfl)
theorem dJ19_clear_24 : decode cJ19_clear 24 = .ok (.goto (-24), 3) := dk_167 255 232 (dk_at dksJ19_clear_1 0 rfl rfl)
theorem dJ19_clear_27 : decode cJ19_clear 27 = .ok (.return_, 1) := dk_177 (dk_at dksJ19_clear_1 3 rfl rfl)
abbrev cJ19_or : ByteArray := prog_59_method_37_code
def yJ19_or : MethodName := ⟨RJ19, "or", "(Ljava/util/BitSet;)V"⟩
def dkwJ19_or_4 : List UInt8 := [180, 0, 7, 28, 100, 184, 0, 199, 42, 182, 0, 56, 177]
abbrev dktJ19_or_4 : List UInt8 := dkwJ19_or_4 ++ []
def dkwJ19_or_3 : List UInt8 := [167, 255, 233, 28, 43, 180, 0, 7, 162, 0, 22, 43, 180, 0, 11, 28, 42, 180, 0, 11, 28, 42]
abbrev dktJ19_or_3 : List UInt8 := dkwJ19_or_3 ++ dktJ19_or_4
def dkwJ19_or_2 : List UInt8 := [29, 28, 162, 0, 24, 42, 180, 0, 11, 29, 92, 47, 43, 180, 0, 11, 29, 47, 129, 80, 132, 3, 1]
abbrev dktJ19_or_2 : List UInt8 := dkwJ19_or_2 ++ dktJ19_or_3
def dkwJ19_or_1 : List UInt8 := [180, 0, 7, 162, 0, 19, 42, 43, 180, 0, 7, 182, 0, 139, 42, 43, 180, 0, 7, 181, 0, 7, 3, 62]
abbrev dktJ19_or_1 : List UInt8 := dkwJ19_or_1 ++ dktJ19_or_2
def dkwJ19_or_0 : List UInt8 := [42, 43, 166, 0, 4, 177, 42, 180, 0, 7, 43, 180, 0, 7, 184, 0, 193, 61, 42, 180, 0, 7, 43]
abbrev dktJ19_or_0 : List UInt8 := dkwJ19_or_0 ++ dktJ19_or_1
theorem dksJ19_or_0 : cJ19_or.data.toList.drop 0 = dktJ19_or_0 := by decide +kernel
theorem dksJ19_or_1 : cJ19_or.data.toList.drop 23 = dktJ19_or_1 := dk_seg dksJ19_or_0 23 rfl rfl
theorem dksJ19_or_2 : cJ19_or.data.toList.drop 47 = dktJ19_or_2 := dk_seg dksJ19_or_1 24 rfl rfl
theorem dksJ19_or_3 : cJ19_or.data.toList.drop 70 = dktJ19_or_3 := dk_seg dksJ19_or_2 23 rfl rfl
theorem dksJ19_or_4 : cJ19_or.data.toList.drop 92 = dktJ19_or_4 := dk_seg dksJ19_or_3 22 rfl rfl
theorem dJ19_or_0 : decode cJ19_or 0 = .ok (.aload_n 0, 1) := dk_42 (dk_at dksJ19_or_0 0 rfl rfl)
theorem dJ19_or_1 : decode cJ19_or 1 = .ok (.aload_n 1, 1) := dk_43 (dk_at dksJ19_or_0 1 rfl rfl)
theorem dJ19_or_2 : decode cJ19_or 2 = .ok (.if_acmp .ne 4, 3) := dk_166 0 4 (dk_at dksJ19_or_0 2 rfl rfl)
theorem dJ19_or_5 : decode cJ19_or 5 = .ok (.return_, 1) := dk_177 (dk_at dksJ19_or_0 5 rfl rfl)
theorem dJ19_or_6 : decode cJ19_or 6 = .ok (.aload_n 0, 1) := dk_42 (dk_at dksJ19_or_0 6 rfl rfl)
theorem dJ19_or_7 : decode cJ19_or 7 = .ok (.getfield 7, 3) := dk_180 0 7 (dk_at dksJ19_or_0 7 rfl rfl)
theorem dJ19_or_10 : decode cJ19_or 10 = .ok (.aload_n 1, 1) := dk_43 (dk_at dksJ19_or_0 10 rfl rfl)
theorem dJ19_or_11 : decode cJ19_or 11 = .ok (.getfield 7, 3) := dk_180 0 7 (dk_at dksJ19_or_0 11 rfl rfl)
theorem dJ19_or_14 : decode cJ19_or 14 = .ok (.invokestatic 193, 3) := dk_184 0 193 (dk_at dksJ19_or_0 14 rfl rfl)
theorem dJ19_or_17 : decode cJ19_or 17 = .ok (.istore_n 2, 1) := dk_61 (dk_at dksJ19_or_0 17 rfl rfl)
theorem dJ19_or_18 : decode cJ19_or 18 = .ok (.aload_n 0, 1) := dk_42 (dk_at dksJ19_or_0 18 rfl rfl)
theorem dJ19_or_19 : decode cJ19_or 19 = .ok (.getfield 7, 3) := dk_180 0 7 (dk_at dksJ19_or_0 19 rfl rfl)
theorem dJ19_or_22 : decode cJ19_or 22 = .ok (.aload_n 1, 1) := dk_43 (dk_at dksJ19_or_0 22 rfl rfl)
theorem dJ19_or_23 : decode cJ19_or 23 = .ok (.getfield 7, 3) := dk_180 0 7 (dk_at dksJ19_or_1 0 rfl rfl)
theorem dJ19_or_26 : decode cJ19_or 26 = .ok (.if_icmp .ge 19, 3) := dk_162 0 19 (dk_at dksJ19_or_1 3 rfl rfl)
theorem dJ19_or_29 : decode cJ19_or 29 = .ok (.aload_n 0, 1) := dk_42 (dk_at dksJ19_or_1 6 rfl rfl)
theorem dJ19_or_30 : decode cJ19_or 30 = .ok (.aload_n 1, 1) := dk_43 (dk_at dksJ19_or_1 7 rfl rfl)
theorem dJ19_or_31 : decode cJ19_or 31 = .ok (.getfield 7, 3) := dk_180 0 7 (dk_at dksJ19_or_1 8 rfl rfl)
theorem dJ19_or_34 : decode cJ19_or 34 = .ok (.invokevirtual 139, 3) := dk_182 0 139 (dk_at dksJ19_or_1 11 rfl rfl)
theorem dJ19_or_37 : decode cJ19_or 37 = .ok (.aload_n 0, 1) := dk_42 (dk_at dksJ19_or_1 14 rfl rfl)
theorem dJ19_or_38 : decode cJ19_or 38 = .ok (.aload_n 1, 1) := dk_43 (dk_at dksJ19_or_1 15 rfl rfl)
theorem dJ19_or_39 : decode cJ19_or 39 = .ok (.getfield 7, 3) := dk_180 0 7 (dk_at dksJ19_or_1 16 rfl rfl)
theorem dJ19_or_42 : decode cJ19_or 42 = .ok (.putfield 7, 3) := dk_181 0 7 (dk_at dksJ19_or_1 19 rfl rfl)
theorem dJ19_or_45 : decode cJ19_or 45 = .ok (.iconst 0, 1) := dk_3 (dk_at dksJ19_or_1 22 rfl rfl)
theorem dJ19_or_46 : decode cJ19_or 46 = .ok (.istore_n 3, 1) := dk_62 (dk_at dksJ19_or_1 23 rfl rfl)
theorem dJ19_or_47 : decode cJ19_or 47 = .ok (.iload_n 3, 1) := dk_29 (dk_at dksJ19_or_2 0 rfl rfl)
theorem dJ19_or_48 : decode cJ19_or 48 = .ok (.iload_n 2, 1) := dk_28 (dk_at dksJ19_or_2 1 rfl rfl)
theorem dJ19_or_49 : decode cJ19_or 49 = .ok (.if_icmp .ge 24, 3) := dk_162 0 24 (dk_at dksJ19_or_2 2 rfl rfl)
theorem dJ19_or_52 : decode cJ19_or 52 = .ok (.aload_n 0, 1) := dk_42 (dk_at dksJ19_or_2 5 rfl rfl)
theorem dJ19_or_53 : decode cJ19_or 53 = .ok (.getfield 11, 3) := dk_180 0 11 (dk_at dksJ19_or_2 6 rfl rfl)
theorem dJ19_or_56 : decode cJ19_or 56 = .ok (.iload_n 3, 1) := dk_29 (dk_at dksJ19_or_2 9 rfl rfl)
theorem dJ19_or_57 : decode cJ19_or 57 = .ok (.dup2, 1) := dk_92 (dk_at dksJ19_or_2 10 rfl rfl)
theorem dJ19_or_58 : decode cJ19_or 58 = .ok (.laload, 1) := dk_47 (dk_at dksJ19_or_2 11 rfl rfl)
theorem dJ19_or_59 : decode cJ19_or 59 = .ok (.aload_n 1, 1) := dk_43 (dk_at dksJ19_or_2 12 rfl rfl)
theorem dJ19_or_60 : decode cJ19_or 60 = .ok (.getfield 11, 3) := dk_180 0 11 (dk_at dksJ19_or_2 13 rfl rfl)
theorem dJ19_or_63 : decode cJ19_or 63 = .ok (.iload_n 3, 1) := dk_29 (dk_at dksJ19_or_2 16 rfl rfl)
theorem dJ19_or_64 : decode cJ19_or 64 = .ok (.laload, 1) := dk_47 (dk_at dksJ19_or_2 17 rfl rfl)
theorem dJ19_or_65 : decode cJ19_or 65 = .ok (.lor, 1) := dk_129 (dk_at dksJ19_or_2 18 rfl rfl)
theorem dJ19_or_66 : decode cJ19_or 66 = .ok (.lastore, 1) := dk_80 (dk_at dksJ19_or_2 19 rfl rfl)
theorem dJ19_or_67 : decode cJ19_or 67 = .ok (.iinc 3 1, 3) := dk_132 3 1 (dk_at dksJ19_or_2 20 rfl rfl)
theorem dJ19_or_70 : decode cJ19_or 70 = .ok (.goto (-23), 3) := dk_167 255 233 (dk_at dksJ19_or_3 0 rfl rfl)
theorem dJ19_or_73 : decode cJ19_or 73 = .ok (.iload_n 2, 1) := dk_28 (dk_at dksJ19_or_3 3 rfl rfl)
theorem dJ19_or_74 : decode cJ19_or 74 = .ok (.aload_n 1, 1) := dk_43 (dk_at dksJ19_or_3 4 rfl rfl)
theorem dJ19_or_75 : decode cJ19_or 75 = .ok (.getfield 7, 3) := dk_180 0 7 (dk_at dksJ19_or_3 5 rfl rfl)
theorem dJ19_or_78 : decode cJ19_or 78 = .ok (.if_icmp .ge 22, 3) := dk_162 0 22 (dk_at dksJ19_or_3 8 rfl rfl)
theorem dJ19_or_81 : decode cJ19_or 81 = .ok (.aload_n 1, 1) := dk_43 (dk_at dksJ19_or_3 11 rfl rfl)
theorem dJ19_or_82 : decode cJ19_or 82 = .ok (.getfield 11, 3) := dk_180 0 11 (dk_at dksJ19_or_3 12 rfl rfl)
theorem dJ19_or_85 : decode cJ19_or 85 = .ok (.iload_n 2, 1) := dk_28 (dk_at dksJ19_or_3 15 rfl rfl)
theorem dJ19_or_86 : decode cJ19_or 86 = .ok (.aload_n 0, 1) := dk_42 (dk_at dksJ19_or_3 16 rfl rfl)
theorem dJ19_or_87 : decode cJ19_or 87 = .ok (.getfield 11, 3) := dk_180 0 11 (dk_at dksJ19_or_3 17 rfl rfl)
theorem dJ19_or_90 : decode cJ19_or 90 = .ok (.iload_n 2, 1) := dk_28 (dk_at dksJ19_or_3 20 rfl rfl)
theorem dJ19_or_91 : decode cJ19_or 91 = .ok (.aload_n 0, 1) := dk_42 (dk_at dksJ19_or_3 21 rfl rfl)
theorem dJ19_or_92 : decode cJ19_or 92 = .ok (.getfield 7, 3) := dk_180 0 7 (dk_at dksJ19_or_4 0 rfl rfl)
theorem dJ19_or_95 : decode cJ19_or 95 = .ok (.iload_n 2, 1) := dk_28 (dk_at dksJ19_or_4 3 rfl rfl)
theorem dJ19_or_96 : decode cJ19_or 96 = .ok (.isub, 1) := dk_100 (dk_at dksJ19_or_4 4 rfl rfl)
theorem dJ19_or_97 : decode cJ19_or 97 = .ok (.invokestatic 199, 3) := dk_184 0 199 (dk_at dksJ19_or_4 5 rfl rfl)
theorem dJ19_or_100 : decode cJ19_or 100 = .ok (.aload_n 0, 1) := dk_42 (dk_at dksJ19_or_4 8 rfl rfl)
theorem dJ19_or_101 : decode cJ19_or 101 = .ok (.invokevirtual 56, 3) := dk_182 0 56 (dk_at dksJ19_or_4 9 rfl rfl)
theorem dJ19_or_104 : decode cJ19_or 104 = .ok (.return_, 1) := dk_177 (dk_at dksJ19_or_4 12 rfl rfl)
abbrev cJ19_ensureCapacity : ByteArray := prog_59_method_14_code
def yJ19_ensureCapacity : MethodName := ⟨RJ19, "ensureCapacity", "(I)V"⟩
def dkwJ19_ensureCapacity_1 : List UInt8 := [180, 0, 11, 28, 184, 0, 59, 181, 0, 11, 42, 3, 181, 0, 24, 177]
abbrev dktJ19_ensureCapacity_1 : List UInt8 := dkwJ19_ensureCapacity_1 ++ []
def dkwJ19_ensureCapacity_0 : List UInt8 := [42, 180, 0, 11, 190, 27, 162, 0, 32, 5, 42, 180, 0, 11, 190, 104, 27, 184, 0, 133, 61, 42, 42]
abbrev dktJ19_ensureCapacity_0 : List UInt8 := dkwJ19_ensureCapacity_0 ++ dktJ19_ensureCapacity_1
theorem dksJ19_ensureCapacity_0 : cJ19_ensureCapacity.data.toList.drop 0 = dktJ19_ensureCapacity_0 := by decide +kernel
theorem dksJ19_ensureCapacity_1 : cJ19_ensureCapacity.data.toList.drop 23 = dktJ19_ensureCapacity_1 := dk_seg dksJ19_ensureCapacity_0 23 rfl rfl
theorem dJ19_ensureCapacity_0 : decode cJ19_ensureCapacity 0 = .ok (.aload_n 0, 1) := dk_42 (dk_at dksJ19_ensureCapacity_0 0 rfl rfl)
theorem dJ19_ensureCapacity_1 : decode cJ19_ensureCapacity 1 = .ok (.getfield 11, 3) := dk_180 0 11 (dk_at dksJ19_ensureCapacity_0 1 rfl rfl)
theorem dJ19_ensureCapacity_4 : decode cJ19_ensureCapacity 4 = .ok (.arraylength, 1) := dk_190 (dk_at dksJ19_ensureCapacity_0 4 rfl rfl)
theorem dJ19_ensureCapacity_5 : decode cJ19_ensureCapacity 5 = .ok (.iload_n 1, 1) := dk_27 (dk_at dksJ19_ensureCapacity_0 5 rfl rfl)
theorem dJ19_ensureCapacity_6 : decode cJ19_ensureCapacity 6 = .ok (.if_icmp .ge 32, 3) := dk_162 0 32 (dk_at dksJ19_ensureCapacity_0 6 rfl rfl)
theorem dJ19_ensureCapacity_9 : decode cJ19_ensureCapacity 9 = .ok (.iconst 2, 1) := dk_5 (dk_at dksJ19_ensureCapacity_0 9 rfl rfl)
theorem dJ19_ensureCapacity_10 : decode cJ19_ensureCapacity 10 = .ok (.aload_n 0, 1) := dk_42 (dk_at dksJ19_ensureCapacity_0 10 rfl rfl)
theorem dJ19_ensureCapacity_11 : decode cJ19_ensureCapacity 11 = .ok (.getfield 11, 3) := dk_180 0 11 (dk_at dksJ19_ensureCapacity_0 11 rfl rfl)
theorem dJ19_ensureCapacity_14 : decode cJ19_ensureCapacity 14 = .ok (.arraylength, 1) := dk_190 (dk_at dksJ19_ensureCapacity_0 14 rfl rfl)
theorem dJ19_ensureCapacity_15 : decode cJ19_ensureCapacity 15 = .ok (.imul, 1) := dk_104 (dk_at dksJ19_ensureCapacity_0 15 rfl rfl)
theorem dJ19_ensureCapacity_16 : decode cJ19_ensureCapacity 16 = .ok (.iload_n 1, 1) := dk_27 (dk_at dksJ19_ensureCapacity_0 16 rfl rfl)
theorem dJ19_ensureCapacity_17 : decode cJ19_ensureCapacity 17 = .ok (.invokestatic 133, 3) := dk_184 0 133 (dk_at dksJ19_ensureCapacity_0 17 rfl rfl)
theorem dJ19_ensureCapacity_20 : decode cJ19_ensureCapacity 20 = .ok (.istore_n 2, 1) := dk_61 (dk_at dksJ19_ensureCapacity_0 20 rfl rfl)
theorem dJ19_ensureCapacity_21 : decode cJ19_ensureCapacity 21 = .ok (.aload_n 0, 1) := dk_42 (dk_at dksJ19_ensureCapacity_0 21 rfl rfl)
theorem dJ19_ensureCapacity_22 : decode cJ19_ensureCapacity 22 = .ok (.aload_n 0, 1) := dk_42 (dk_at dksJ19_ensureCapacity_0 22 rfl rfl)
theorem dJ19_ensureCapacity_23 : decode cJ19_ensureCapacity 23 = .ok (.getfield 11, 3) := dk_180 0 11 (dk_at dksJ19_ensureCapacity_1 0 rfl rfl)
theorem dJ19_ensureCapacity_26 : decode cJ19_ensureCapacity 26 = .ok (.iload_n 2, 1) := dk_28 (dk_at dksJ19_ensureCapacity_1 3 rfl rfl)
theorem dJ19_ensureCapacity_27 : decode cJ19_ensureCapacity 27 = .ok (.invokestatic 59, 3) := dk_184 0 59 (dk_at dksJ19_ensureCapacity_1 4 rfl rfl)
theorem dJ19_ensureCapacity_30 : decode cJ19_ensureCapacity 30 = .ok (.putfield 11, 3) := dk_181 0 11 (dk_at dksJ19_ensureCapacity_1 7 rfl rfl)
theorem dJ19_ensureCapacity_33 : decode cJ19_ensureCapacity 33 = .ok (.aload_n 0, 1) := dk_42 (dk_at dksJ19_ensureCapacity_1 10 rfl rfl)
theorem dJ19_ensureCapacity_34 : decode cJ19_ensureCapacity 34 = .ok (.iconst 0, 1) := dk_3 (dk_at dksJ19_ensureCapacity_1 11 rfl rfl)
theorem dJ19_ensureCapacity_35 : decode cJ19_ensureCapacity 35 = .ok (.putfield 24, 3) := dk_181 0 24 (dk_at dksJ19_ensureCapacity_1 12 rfl rfl)
theorem dJ19_ensureCapacity_38 : decode cJ19_ensureCapacity 38 = .ok (.return_, 1) := dk_177 (dk_at dksJ19_ensureCapacity_1 15 rfl rfl)
abbrev cJ19_checkInvariants : ByteArray := prog_59_method_2_code
def yJ19_checkInvariants : MethodName := ⟨RJ19, "checkInvariants", "()V"⟩
def dkwJ19_checkInvariants_4 : List UInt8 := [180, 0, 7, 47, 9, 148, 153, 0, 11, 187, 0, 15, 89, 183, 0, 17, 191, 177]
abbrev dktJ19_checkInvariants_4 : List UInt8 := dkwJ19_checkInvariants_4 ++ []
def dkwJ19_checkInvariants_3 : List UInt8 := [178, 0, 3, 154, 0, 37, 42, 180, 0, 7, 42, 180, 0, 11, 190, 159, 0, 25, 42, 180, 0, 11, 42]
abbrev dktJ19_checkInvariants_3 : List UInt8 := dkwJ19_checkInvariants_3 ++ dktJ19_checkInvariants_4
def dkwJ19_checkInvariants_2 : List UInt8 := [155, 0, 15, 42, 180, 0, 7, 42, 180, 0, 11, 190, 164, 0, 11, 187, 0, 15, 89, 183, 0, 17, 191]
abbrev dktJ19_checkInvariants_2 : List UInt8 := dkwJ19_checkInvariants_2 ++ dktJ19_checkInvariants_3
def dkwJ19_checkInvariants_1 : List UInt8 := [9, 148, 154, 0, 11, 187, 0, 15, 89, 183, 0, 17, 191, 178, 0, 3, 154, 0, 30, 42, 180, 0, 7]
abbrev dktJ19_checkInvariants_1 : List UInt8 := dkwJ19_checkInvariants_1 ++ dktJ19_checkInvariants_2
def dkwJ19_checkInvariants_0 : List UInt8 := [178, 0, 3, 154, 0, 34, 42, 180, 0, 7, 153, 0, 27, 42, 180, 0, 11, 42, 180, 0, 7, 4, 100, 47]
abbrev dktJ19_checkInvariants_0 : List UInt8 := dkwJ19_checkInvariants_0 ++ dktJ19_checkInvariants_1
theorem dksJ19_checkInvariants_0 : cJ19_checkInvariants.data.toList.drop 0 = dktJ19_checkInvariants_0 := by decide +kernel
theorem dksJ19_checkInvariants_1 : cJ19_checkInvariants.data.toList.drop 24 = dktJ19_checkInvariants_1 := dk_seg dksJ19_checkInvariants_0 24 rfl rfl
theorem dksJ19_checkInvariants_2 : cJ19_checkInvariants.data.toList.drop 47 = dktJ19_checkInvariants_2 := dk_seg dksJ19_checkInvariants_1 23 rfl rfl
theorem dksJ19_checkInvariants_3 : cJ19_checkInvariants.data.toList.drop 70 = dktJ19_checkInvariants_3 := dk_seg dksJ19_checkInvariants_2 23 rfl rfl
theorem dksJ19_checkInvariants_4 : cJ19_checkInvariants.data.toList.drop 93 = dktJ19_checkInvariants_4 := dk_seg dksJ19_checkInvariants_3 23 rfl rfl
theorem dJ19_checkInvariants_0 : decode cJ19_checkInvariants 0 = .ok (.getstatic 3, 3) := dk_178 0 3 (dk_at dksJ19_checkInvariants_0 0 rfl rfl)
theorem dJ19_checkInvariants_3 : decode cJ19_checkInvariants 3 = .ok (.ifCond .ne 34, 3) := dk_154 0 34 (dk_at dksJ19_checkInvariants_0 3 rfl rfl)
theorem dJ19_checkInvariants_6 : decode cJ19_checkInvariants 6 = .ok (.aload_n 0, 1) := dk_42 (dk_at dksJ19_checkInvariants_0 6 rfl rfl)
theorem dJ19_checkInvariants_7 : decode cJ19_checkInvariants 7 = .ok (.getfield 7, 3) := dk_180 0 7 (dk_at dksJ19_checkInvariants_0 7 rfl rfl)
theorem dJ19_checkInvariants_10 : decode cJ19_checkInvariants 10 = .ok (.ifCond .eq 27, 3) := dk_153 0 27 (dk_at dksJ19_checkInvariants_0 10 rfl rfl)
theorem dJ19_checkInvariants_13 : decode cJ19_checkInvariants 13 = .ok (.aload_n 0, 1) := dk_42 (dk_at dksJ19_checkInvariants_0 13 rfl rfl)
theorem dJ19_checkInvariants_14 : decode cJ19_checkInvariants 14 = .ok (.getfield 11, 3) := dk_180 0 11 (dk_at dksJ19_checkInvariants_0 14 rfl rfl)
theorem dJ19_checkInvariants_17 : decode cJ19_checkInvariants 17 = .ok (.aload_n 0, 1) := dk_42 (dk_at dksJ19_checkInvariants_0 17 rfl rfl)
theorem dJ19_checkInvariants_18 : decode cJ19_checkInvariants 18 = .ok (.getfield 7, 3) := dk_180 0 7 (dk_at dksJ19_checkInvariants_0 18 rfl rfl)
theorem dJ19_checkInvariants_21 : decode cJ19_checkInvariants 21 = .ok (.iconst 1, 1) := dk_4 (dk_at dksJ19_checkInvariants_0 21 rfl rfl)
theorem dJ19_checkInvariants_22 : decode cJ19_checkInvariants 22 = .ok (.isub, 1) := dk_100 (dk_at dksJ19_checkInvariants_0 22 rfl rfl)
theorem dJ19_checkInvariants_23 : decode cJ19_checkInvariants 23 = .ok (.laload, 1) := dk_47 (dk_at dksJ19_checkInvariants_0 23 rfl rfl)
theorem dJ19_checkInvariants_24 : decode cJ19_checkInvariants 24 = .ok (.lconst 0, 1) := dk_9 (dk_at dksJ19_checkInvariants_1 0 rfl rfl)
theorem dJ19_checkInvariants_25 : decode cJ19_checkInvariants 25 = .ok (.lcmp, 1) := dk_148 (dk_at dksJ19_checkInvariants_1 1 rfl rfl)
theorem dJ19_checkInvariants_26 : decode cJ19_checkInvariants 26 = .ok (.ifCond .ne 11, 3) := dk_154 0 11 (dk_at dksJ19_checkInvariants_1 2 rfl rfl)
theorem dJ19_checkInvariants_29 : decode cJ19_checkInvariants 29 = .ok (.new 15, 3) := dk_187 0 15 (dk_at dksJ19_checkInvariants_1 5 rfl rfl)
theorem dJ19_checkInvariants_32 : decode cJ19_checkInvariants 32 = .ok (.dup, 1) := dk_89 (dk_at dksJ19_checkInvariants_1 8 rfl rfl)
theorem dJ19_checkInvariants_33 : decode cJ19_checkInvariants 33 = .ok (.invokespecial 17, 3) := dk_183 0 17 (dk_at dksJ19_checkInvariants_1 9 rfl rfl)
theorem dJ19_checkInvariants_36 : decode cJ19_checkInvariants 36 = .ok (.athrow, 1) := dk_191 (dk_at dksJ19_checkInvariants_1 12 rfl rfl)
theorem dJ19_checkInvariants_37 : decode cJ19_checkInvariants 37 = .ok (.getstatic 3, 3) := dk_178 0 3 (dk_at dksJ19_checkInvariants_1 13 rfl rfl)
theorem dJ19_checkInvariants_40 : decode cJ19_checkInvariants 40 = .ok (.ifCond .ne 30, 3) := dk_154 0 30 (dk_at dksJ19_checkInvariants_1 16 rfl rfl)
theorem dJ19_checkInvariants_43 : decode cJ19_checkInvariants 43 = .ok (.aload_n 0, 1) := dk_42 (dk_at dksJ19_checkInvariants_1 19 rfl rfl)
theorem dJ19_checkInvariants_44 : decode cJ19_checkInvariants 44 = .ok (.getfield 7, 3) := dk_180 0 7 (dk_at dksJ19_checkInvariants_1 20 rfl rfl)
theorem dJ19_checkInvariants_47 : decode cJ19_checkInvariants 47 = .ok (.ifCond .lt 15, 3) := dk_155 0 15 (dk_at dksJ19_checkInvariants_2 0 rfl rfl)
theorem dJ19_checkInvariants_50 : decode cJ19_checkInvariants 50 = .ok (.aload_n 0, 1) := dk_42 (dk_at dksJ19_checkInvariants_2 3 rfl rfl)
theorem dJ19_checkInvariants_51 : decode cJ19_checkInvariants 51 = .ok (.getfield 7, 3) := dk_180 0 7 (dk_at dksJ19_checkInvariants_2 4 rfl rfl)
theorem dJ19_checkInvariants_54 : decode cJ19_checkInvariants 54 = .ok (.aload_n 0, 1) := dk_42 (dk_at dksJ19_checkInvariants_2 7 rfl rfl)
theorem dJ19_checkInvariants_55 : decode cJ19_checkInvariants 55 = .ok (.getfield 11, 3) := dk_180 0 11 (dk_at dksJ19_checkInvariants_2 8 rfl rfl)
theorem dJ19_checkInvariants_58 : decode cJ19_checkInvariants 58 = .ok (.arraylength, 1) := dk_190 (dk_at dksJ19_checkInvariants_2 11 rfl rfl)
theorem dJ19_checkInvariants_59 : decode cJ19_checkInvariants 59 = .ok (.if_icmp .le 11, 3) := dk_164 0 11 (dk_at dksJ19_checkInvariants_2 12 rfl rfl)
theorem dJ19_checkInvariants_62 : decode cJ19_checkInvariants 62 = .ok (.new 15, 3) := dk_187 0 15 (dk_at dksJ19_checkInvariants_2 15 rfl rfl)
theorem dJ19_checkInvariants_65 : decode cJ19_checkInvariants 65 = .ok (.dup, 1) := dk_89 (dk_at dksJ19_checkInvariants_2 18 rfl rfl)
theorem dJ19_checkInvariants_66 : decode cJ19_checkInvariants 66 = .ok (.invokespecial 17, 3) := dk_183 0 17 (dk_at dksJ19_checkInvariants_2 19 rfl rfl)
theorem dJ19_checkInvariants_69 : decode cJ19_checkInvariants 69 = .ok (.athrow, 1) := dk_191 (dk_at dksJ19_checkInvariants_2 22 rfl rfl)
theorem dJ19_checkInvariants_70 : decode cJ19_checkInvariants 70 = .ok (.getstatic 3, 3) := dk_178 0 3 (dk_at dksJ19_checkInvariants_3 0 rfl rfl)
theorem dJ19_checkInvariants_73 : decode cJ19_checkInvariants 73 = .ok (.ifCond .ne 37, 3) := dk_154 0 37 (dk_at dksJ19_checkInvariants_3 3 rfl rfl)
theorem dJ19_checkInvariants_76 : decode cJ19_checkInvariants 76 = .ok (.aload_n 0, 1) := dk_42 (dk_at dksJ19_checkInvariants_3 6 rfl rfl)
theorem dJ19_checkInvariants_77 : decode cJ19_checkInvariants 77 = .ok (.getfield 7, 3) := dk_180 0 7 (dk_at dksJ19_checkInvariants_3 7 rfl rfl)
theorem dJ19_checkInvariants_80 : decode cJ19_checkInvariants 80 = .ok (.aload_n 0, 1) := dk_42 (dk_at dksJ19_checkInvariants_3 10 rfl rfl)
theorem dJ19_checkInvariants_81 : decode cJ19_checkInvariants 81 = .ok (.getfield 11, 3) := dk_180 0 11 (dk_at dksJ19_checkInvariants_3 11 rfl rfl)
theorem dJ19_checkInvariants_84 : decode cJ19_checkInvariants 84 = .ok (.arraylength, 1) := dk_190 (dk_at dksJ19_checkInvariants_3 14 rfl rfl)
theorem dJ19_checkInvariants_85 : decode cJ19_checkInvariants 85 = .ok (.if_icmp .eq 25, 3) := dk_159 0 25 (dk_at dksJ19_checkInvariants_3 15 rfl rfl)
theorem dJ19_checkInvariants_88 : decode cJ19_checkInvariants 88 = .ok (.aload_n 0, 1) := dk_42 (dk_at dksJ19_checkInvariants_3 18 rfl rfl)
theorem dJ19_checkInvariants_89 : decode cJ19_checkInvariants 89 = .ok (.getfield 11, 3) := dk_180 0 11 (dk_at dksJ19_checkInvariants_3 19 rfl rfl)
theorem dJ19_checkInvariants_92 : decode cJ19_checkInvariants 92 = .ok (.aload_n 0, 1) := dk_42 (dk_at dksJ19_checkInvariants_3 22 rfl rfl)
theorem dJ19_checkInvariants_93 : decode cJ19_checkInvariants 93 = .ok (.getfield 7, 3) := dk_180 0 7 (dk_at dksJ19_checkInvariants_4 0 rfl rfl)
theorem dJ19_checkInvariants_96 : decode cJ19_checkInvariants 96 = .ok (.laload, 1) := dk_47 (dk_at dksJ19_checkInvariants_4 3 rfl rfl)
theorem dJ19_checkInvariants_97 : decode cJ19_checkInvariants 97 = .ok (.lconst 0, 1) := dk_9 (dk_at dksJ19_checkInvariants_4 4 rfl rfl)
theorem dJ19_checkInvariants_98 : decode cJ19_checkInvariants 98 = .ok (.lcmp, 1) := dk_148 (dk_at dksJ19_checkInvariants_4 5 rfl rfl)
theorem dJ19_checkInvariants_99 : decode cJ19_checkInvariants 99 = .ok (.ifCond .eq 11, 3) := dk_153 0 11 (dk_at dksJ19_checkInvariants_4 6 rfl rfl)
theorem dJ19_checkInvariants_102 : decode cJ19_checkInvariants 102 = .ok (.new 15, 3) := dk_187 0 15 (dk_at dksJ19_checkInvariants_4 9 rfl rfl)
theorem dJ19_checkInvariants_105 : decode cJ19_checkInvariants 105 = .ok (.dup, 1) := dk_89 (dk_at dksJ19_checkInvariants_4 12 rfl rfl)
theorem dJ19_checkInvariants_106 : decode cJ19_checkInvariants 106 = .ok (.invokespecial 17, 3) := dk_183 0 17 (dk_at dksJ19_checkInvariants_4 13 rfl rfl)
theorem dJ19_checkInvariants_109 : decode cJ19_checkInvariants 109 = .ok (.athrow, 1) := dk_191 (dk_at dksJ19_checkInvariants_4 16 rfl rfl)
theorem dJ19_checkInvariants_110 : decode cJ19_checkInvariants 110 = .ok (.return_, 1) := dk_177 (dk_at dksJ19_checkInvariants_4 17 rfl rfl)
abbrev cJ19_set : ByteArray := prog_59_method_20_code
def yJ19_set : MethodName := ⟨RJ19, "set", "(IZ)V"⟩
def dkwJ19_set_0 : List UInt8 := [28, 153, 0, 11, 42, 27, 182, 0, 167, 167, 0, 8, 42, 27, 182, 0, 170, 177]
abbrev dktJ19_set_0 : List UInt8 := dkwJ19_set_0 ++ []
theorem dksJ19_set_0 : cJ19_set.data.toList.drop 0 = dktJ19_set_0 := by decide +kernel
theorem dJ19_set_0 : decode cJ19_set 0 = .ok (.iload_n 2, 1) := dk_28 (dk_at dksJ19_set_0 0 rfl rfl)
theorem dJ19_set_1 : decode cJ19_set 1 = .ok (.ifCond .eq 11, 3) := dk_153 0 11 (dk_at dksJ19_set_0 1 rfl rfl)
theorem dJ19_set_4 : decode cJ19_set 4 = .ok (.aload_n 0, 1) := dk_42 (dk_at dksJ19_set_0 4 rfl rfl)
theorem dJ19_set_5 : decode cJ19_set 5 = .ok (.iload_n 1, 1) := dk_27 (dk_at dksJ19_set_0 5 rfl rfl)
theorem dJ19_set_6 : decode cJ19_set 6 = .ok (.invokevirtual 167, 3) := dk_182 0 167 (dk_at dksJ19_set_0 6 rfl rfl)
theorem dJ19_set_9 : decode cJ19_set 9 = .ok (.goto 8, 3) := dk_167 0 8 (dk_at dksJ19_set_0 9 rfl rfl)
theorem dJ19_set_12 : decode cJ19_set 12 = .ok (.aload_n 0, 1) := dk_42 (dk_at dksJ19_set_0 12 rfl rfl)
theorem dJ19_set_13 : decode cJ19_set 13 = .ok (.iload_n 1, 1) := dk_27 (dk_at dksJ19_set_0 13 rfl rfl)
theorem dJ19_set_14 : decode cJ19_set 14 = .ok (.invokevirtual 170, 3) := dk_182 0 170 (dk_at dksJ19_set_0 14 rfl rfl)
theorem dJ19_set_17 : decode cJ19_set 17 = .ok (.return_, 1) := dk_177 (dk_at dksJ19_set_0 17 rfl rfl)
abbrev cJ19_set_2 : ByteArray := prog_59_method_19_code
def yJ19_set_2 : MethodName := ⟨RJ19, "set", "(I)V"⟩
def dkwJ19_set_2_2 : List UInt8 := [10, 27, 121, 129, 80, 42, 182, 0, 56, 177]
abbrev dktJ19_set_2_2 : List UInt8 := dkwJ19_set_2_2 ++ []
def dkwJ19_set_2_1 : List UInt8 := [182, 0, 45, 183, 0, 146, 191, 27, 184, 0, 52, 61, 42, 28, 182, 0, 155, 42, 180, 0, 11, 28, 92, 47]
abbrev dktJ19_set_2_1 : List UInt8 := dkwJ19_set_2_1 ++ dktJ19_set_2_2
def dkwJ19_set_2_0 : List UInt8 := [27, 156, 0, 30, 187, 0, 142, 89, 187, 0, 33, 89, 183, 0, 35, 18, 153, 182, 0, 38, 27, 182, 0, 42]
abbrev dktJ19_set_2_0 : List UInt8 := dkwJ19_set_2_0 ++ dktJ19_set_2_1
theorem dksJ19_set_2_0 : cJ19_set_2.data.toList.drop 0 = dktJ19_set_2_0 := by decide +kernel
theorem dksJ19_set_2_1 : cJ19_set_2.data.toList.drop 24 = dktJ19_set_2_1 := dk_seg dksJ19_set_2_0 24 rfl rfl
theorem dksJ19_set_2_2 : cJ19_set_2.data.toList.drop 48 = dktJ19_set_2_2 := dk_seg dksJ19_set_2_1 24 rfl rfl
theorem dJ19_set_2_0 : decode cJ19_set_2 0 = .ok (.iload_n 1, 1) := dk_27 (dk_at dksJ19_set_2_0 0 rfl rfl)
theorem dJ19_set_2_1 : decode cJ19_set_2 1 = .ok (.ifCond .ge 30, 3) := dk_156 0 30 (dk_at dksJ19_set_2_0 1 rfl rfl)
theorem dJ19_set_2_4 : decode cJ19_set_2 4 = .ok (.new 142, 3) := dk_187 0 142 (dk_at dksJ19_set_2_0 4 rfl rfl)
theorem dJ19_set_2_7 : decode cJ19_set_2 7 = .ok (.dup, 1) := dk_89 (dk_at dksJ19_set_2_0 7 rfl rfl)
theorem dJ19_set_2_8 : decode cJ19_set_2 8 = .ok (.new 33, 3) := dk_187 0 33 (dk_at dksJ19_set_2_0 8 rfl rfl)
theorem dJ19_set_2_11 : decode cJ19_set_2 11 = .ok (.dup, 1) := dk_89 (dk_at dksJ19_set_2_0 11 rfl rfl)
theorem dJ19_set_2_12 : decode cJ19_set_2 12 = .ok (.invokespecial 35, 3) := dk_183 0 35 (dk_at dksJ19_set_2_0 12 rfl rfl)
theorem dJ19_set_2_15 : decode cJ19_set_2 15 = .ok (.ldc 153, 2) := dk_18 153 (dk_at dksJ19_set_2_0 15 rfl rfl)
theorem dJ19_set_2_17 : decode cJ19_set_2 17 = .ok (.invokevirtual 38, 3) := dk_182 0 38 (dk_at dksJ19_set_2_0 17 rfl rfl)
theorem dJ19_set_2_20 : decode cJ19_set_2 20 = .ok (.iload_n 1, 1) := dk_27 (dk_at dksJ19_set_2_0 20 rfl rfl)
theorem dJ19_set_2_21 : decode cJ19_set_2 21 = .ok (.invokevirtual 42, 3) := dk_182 0 42 (dk_at dksJ19_set_2_0 21 rfl rfl)
theorem dJ19_set_2_24 : decode cJ19_set_2 24 = .ok (.invokevirtual 45, 3) := dk_182 0 45 (dk_at dksJ19_set_2_1 0 rfl rfl)
theorem dJ19_set_2_27 : decode cJ19_set_2 27 = .ok (.invokespecial 146, 3) := dk_183 0 146 (dk_at dksJ19_set_2_1 3 rfl rfl)
theorem dJ19_set_2_30 : decode cJ19_set_2 30 = .ok (.athrow, 1) := dk_191 (dk_at dksJ19_set_2_1 6 rfl rfl)
theorem dJ19_set_2_31 : decode cJ19_set_2 31 = .ok (.iload_n 1, 1) := dk_27 (dk_at dksJ19_set_2_1 7 rfl rfl)
theorem dJ19_set_2_32 : decode cJ19_set_2 32 = .ok (.invokestatic 52, 3) := dk_184 0 52 (dk_at dksJ19_set_2_1 8 rfl rfl)
theorem dJ19_set_2_35 : decode cJ19_set_2 35 = .ok (.istore_n 2, 1) := dk_61 (dk_at dksJ19_set_2_1 11 rfl rfl)
theorem dJ19_set_2_36 : decode cJ19_set_2 36 = .ok (.aload_n 0, 1) := dk_42 (dk_at dksJ19_set_2_1 12 rfl rfl)
theorem dJ19_set_2_37 : decode cJ19_set_2 37 = .ok (.iload_n 2, 1) := dk_28 (dk_at dksJ19_set_2_1 13 rfl rfl)
theorem dJ19_set_2_38 : decode cJ19_set_2 38 = .ok (.invokevirtual 155, 3) := dk_182 0 155 (dk_at dksJ19_set_2_1 14 rfl rfl)
theorem dJ19_set_2_41 : decode cJ19_set_2 41 = .ok (.aload_n 0, 1) := dk_42 (dk_at dksJ19_set_2_1 17 rfl rfl)
theorem dJ19_set_2_42 : decode cJ19_set_2 42 = .ok (.getfield 11, 3) := dk_180 0 11 (dk_at dksJ19_set_2_1 18 rfl rfl)
theorem dJ19_set_2_45 : decode cJ19_set_2 45 = .ok (.iload_n 2, 1) := dk_28 (dk_at dksJ19_set_2_1 21 rfl rfl)
theorem dJ19_set_2_46 : decode cJ19_set_2 46 = .ok (.dup2, 1) := dk_92 (dk_at dksJ19_set_2_1 22 rfl rfl)
theorem dJ19_set_2_47 : decode cJ19_set_2 47 = .ok (.laload, 1) := dk_47 (dk_at dksJ19_set_2_1 23 rfl rfl)
theorem dJ19_set_2_48 : decode cJ19_set_2 48 = .ok (.lconst 1, 1) := dk_10 (dk_at dksJ19_set_2_2 0 rfl rfl)
theorem dJ19_set_2_49 : decode cJ19_set_2 49 = .ok (.iload_n 1, 1) := dk_27 (dk_at dksJ19_set_2_2 1 rfl rfl)
theorem dJ19_set_2_50 : decode cJ19_set_2 50 = .ok (.lshl, 1) := dk_121 (dk_at dksJ19_set_2_2 2 rfl rfl)
theorem dJ19_set_2_51 : decode cJ19_set_2 51 = .ok (.lor, 1) := dk_129 (dk_at dksJ19_set_2_2 3 rfl rfl)
theorem dJ19_set_2_52 : decode cJ19_set_2 52 = .ok (.lastore, 1) := dk_80 (dk_at dksJ19_set_2_2 4 rfl rfl)
theorem dJ19_set_2_53 : decode cJ19_set_2 53 = .ok (.aload_n 0, 1) := dk_42 (dk_at dksJ19_set_2_2 5 rfl rfl)
theorem dJ19_set_2_54 : decode cJ19_set_2 54 = .ok (.invokevirtual 56, 3) := dk_182 0 56 (dk_at dksJ19_set_2_2 6 rfl rfl)
theorem dJ19_set_2_57 : decode cJ19_set_2 57 = .ok (.return_, 1) := dk_177 (dk_at dksJ19_set_2_2 9 rfl rfl)
abbrev cJ19_expandTo : ByteArray := prog_59_method_15_code
def yJ19_expandTo : MethodName := ⟨RJ19, "expandTo", "(I)V"⟩
def dkwJ19_expandTo_0 : List UInt8 := [27, 4, 96, 61, 42, 180, 0, 7, 28, 162, 0, 13, 42, 28, 182, 0, 139, 42, 28, 181, 0, 7, 177]
abbrev dktJ19_expandTo_0 : List UInt8 := dkwJ19_expandTo_0 ++ []
theorem dksJ19_expandTo_0 : cJ19_expandTo.data.toList.drop 0 = dktJ19_expandTo_0 := by decide +kernel
theorem dJ19_expandTo_0 : decode cJ19_expandTo 0 = .ok (.iload_n 1, 1) := dk_27 (dk_at dksJ19_expandTo_0 0 rfl rfl)
theorem dJ19_expandTo_1 : decode cJ19_expandTo 1 = .ok (.iconst 1, 1) := dk_4 (dk_at dksJ19_expandTo_0 1 rfl rfl)
theorem dJ19_expandTo_2 : decode cJ19_expandTo 2 = .ok (.iadd, 1) := dk_96 (dk_at dksJ19_expandTo_0 2 rfl rfl)
theorem dJ19_expandTo_3 : decode cJ19_expandTo 3 = .ok (.istore_n 2, 1) := dk_61 (dk_at dksJ19_expandTo_0 3 rfl rfl)
theorem dJ19_expandTo_4 : decode cJ19_expandTo 4 = .ok (.aload_n 0, 1) := dk_42 (dk_at dksJ19_expandTo_0 4 rfl rfl)
theorem dJ19_expandTo_5 : decode cJ19_expandTo 5 = .ok (.getfield 7, 3) := dk_180 0 7 (dk_at dksJ19_expandTo_0 5 rfl rfl)
theorem dJ19_expandTo_8 : decode cJ19_expandTo 8 = .ok (.iload_n 2, 1) := dk_28 (dk_at dksJ19_expandTo_0 8 rfl rfl)
theorem dJ19_expandTo_9 : decode cJ19_expandTo 9 = .ok (.if_icmp .ge 13, 3) := dk_162 0 13 (dk_at dksJ19_expandTo_0 9 rfl rfl)
theorem dJ19_expandTo_12 : decode cJ19_expandTo 12 = .ok (.aload_n 0, 1) := dk_42 (dk_at dksJ19_expandTo_0 12 rfl rfl)
theorem dJ19_expandTo_13 : decode cJ19_expandTo 13 = .ok (.iload_n 2, 1) := dk_28 (dk_at dksJ19_expandTo_0 13 rfl rfl)
theorem dJ19_expandTo_14 : decode cJ19_expandTo 14 = .ok (.invokevirtual 139, 3) := dk_182 0 139 (dk_at dksJ19_expandTo_0 14 rfl rfl)
theorem dJ19_expandTo_17 : decode cJ19_expandTo 17 = .ok (.aload_n 0, 1) := dk_42 (dk_at dksJ19_expandTo_0 17 rfl rfl)
theorem dJ19_expandTo_18 : decode cJ19_expandTo 18 = .ok (.iload_n 2, 1) := dk_28 (dk_at dksJ19_expandTo_0 18 rfl rfl)
theorem dJ19_expandTo_19 : decode cJ19_expandTo 19 = .ok (.putfield 7, 3) := dk_181 0 7 (dk_at dksJ19_expandTo_0 19 rfl rfl)
theorem dJ19_expandTo_22 : decode cJ19_expandTo 22 = .ok (.return_, 1) := dk_177 (dk_at dksJ19_expandTo_0 22 rfl rfl)
abbrev cJ19_clear_2 : ByteArray := prog_59_method_23_code
def yJ19_clear_2 : MethodName := ⟨RJ19, "clear", "(I)V"⟩
def dkwJ19_clear_2_2 : List UInt8 := [180, 0, 11, 28, 92, 47, 10, 27, 121, 20, 0, 165, 131, 127, 80, 42, 182, 0, 158, 42, 182, 0, 56, 177]
abbrev dktJ19_clear_2_2 : List UInt8 := dkwJ19_clear_2_2 ++ []
def dkwJ19_clear_2_1 : List UInt8 := [182, 0, 45, 183, 0, 146, 191, 27, 184, 0, 52, 61, 28, 42, 180, 0, 7, 161, 0, 4, 177, 42]
abbrev dktJ19_clear_2_1 : List UInt8 := dkwJ19_clear_2_1 ++ dktJ19_clear_2_2
def dkwJ19_clear_2_0 : List UInt8 := [27, 156, 0, 30, 187, 0, 142, 89, 187, 0, 33, 89, 183, 0, 35, 18, 153, 182, 0, 38, 27, 182, 0, 42]
abbrev dktJ19_clear_2_0 : List UInt8 := dkwJ19_clear_2_0 ++ dktJ19_clear_2_1
theorem dksJ19_clear_2_0 : cJ19_clear_2.data.toList.drop 0 = dktJ19_clear_2_0 := by decide +kernel
theorem dksJ19_clear_2_1 : cJ19_clear_2.data.toList.drop 24 = dktJ19_clear_2_1 := dk_seg dksJ19_clear_2_0 24 rfl rfl
theorem dksJ19_clear_2_2 : cJ19_clear_2.data.toList.drop 46 = dktJ19_clear_2_2 := dk_seg dksJ19_clear_2_1 22 rfl rfl
theorem dJ19_clear_2_0 : decode cJ19_clear_2 0 = .ok (.iload_n 1, 1) := dk_27 (dk_at dksJ19_clear_2_0 0 rfl rfl)
theorem dJ19_clear_2_1 : decode cJ19_clear_2 1 = .ok (.ifCond .ge 30, 3) := dk_156 0 30 (dk_at dksJ19_clear_2_0 1 rfl rfl)
theorem dJ19_clear_2_4 : decode cJ19_clear_2 4 = .ok (.new 142, 3) := dk_187 0 142 (dk_at dksJ19_clear_2_0 4 rfl rfl)
theorem dJ19_clear_2_7 : decode cJ19_clear_2 7 = .ok (.dup, 1) := dk_89 (dk_at dksJ19_clear_2_0 7 rfl rfl)
theorem dJ19_clear_2_8 : decode cJ19_clear_2 8 = .ok (.new 33, 3) := dk_187 0 33 (dk_at dksJ19_clear_2_0 8 rfl rfl)
theorem dJ19_clear_2_11 : decode cJ19_clear_2 11 = .ok (.dup, 1) := dk_89 (dk_at dksJ19_clear_2_0 11 rfl rfl)
theorem dJ19_clear_2_12 : decode cJ19_clear_2 12 = .ok (.invokespecial 35, 3) := dk_183 0 35 (dk_at dksJ19_clear_2_0 12 rfl rfl)
theorem dJ19_clear_2_15 : decode cJ19_clear_2 15 = .ok (.ldc 153, 2) := dk_18 153 (dk_at dksJ19_clear_2_0 15 rfl rfl)
theorem dJ19_clear_2_17 : decode cJ19_clear_2 17 = .ok (.invokevirtual 38, 3) := dk_182 0 38 (dk_at dksJ19_clear_2_0 17 rfl rfl)
theorem dJ19_clear_2_20 : decode cJ19_clear_2 20 = .ok (.iload_n 1, 1) := dk_27 (dk_at dksJ19_clear_2_0 20 rfl rfl)
theorem dJ19_clear_2_21 : decode cJ19_clear_2 21 = .ok (.invokevirtual 42, 3) := dk_182 0 42 (dk_at dksJ19_clear_2_0 21 rfl rfl)
theorem dJ19_clear_2_24 : decode cJ19_clear_2 24 = .ok (.invokevirtual 45, 3) := dk_182 0 45 (dk_at dksJ19_clear_2_1 0 rfl rfl)
theorem dJ19_clear_2_27 : decode cJ19_clear_2 27 = .ok (.invokespecial 146, 3) := dk_183 0 146 (dk_at dksJ19_clear_2_1 3 rfl rfl)
theorem dJ19_clear_2_30 : decode cJ19_clear_2 30 = .ok (.athrow, 1) := dk_191 (dk_at dksJ19_clear_2_1 6 rfl rfl)
theorem dJ19_clear_2_31 : decode cJ19_clear_2 31 = .ok (.iload_n 1, 1) := dk_27 (dk_at dksJ19_clear_2_1 7 rfl rfl)
theorem dJ19_clear_2_32 : decode cJ19_clear_2 32 = .ok (.invokestatic 52, 3) := dk_184 0 52 (dk_at dksJ19_clear_2_1 8 rfl rfl)
theorem dJ19_clear_2_35 : decode cJ19_clear_2 35 = .ok (.istore_n 2, 1) := dk_61 (dk_at dksJ19_clear_2_1 11 rfl rfl)
theorem dJ19_clear_2_36 : decode cJ19_clear_2 36 = .ok (.iload_n 2, 1) := dk_28 (dk_at dksJ19_clear_2_1 12 rfl rfl)
theorem dJ19_clear_2_37 : decode cJ19_clear_2 37 = .ok (.aload_n 0, 1) := dk_42 (dk_at dksJ19_clear_2_1 13 rfl rfl)
theorem dJ19_clear_2_38 : decode cJ19_clear_2 38 = .ok (.getfield 7, 3) := dk_180 0 7 (dk_at dksJ19_clear_2_1 14 rfl rfl)
theorem dJ19_clear_2_41 : decode cJ19_clear_2 41 = .ok (.if_icmp .lt 4, 3) := dk_161 0 4 (dk_at dksJ19_clear_2_1 17 rfl rfl)
theorem dJ19_clear_2_44 : decode cJ19_clear_2 44 = .ok (.return_, 1) := dk_177 (dk_at dksJ19_clear_2_1 20 rfl rfl)
theorem dJ19_clear_2_45 : decode cJ19_clear_2 45 = .ok (.aload_n 0, 1) := dk_42 (dk_at dksJ19_clear_2_1 21 rfl rfl)
theorem dJ19_clear_2_46 : decode cJ19_clear_2 46 = .ok (.getfield 11, 3) := dk_180 0 11 (dk_at dksJ19_clear_2_2 0 rfl rfl)
theorem dJ19_clear_2_49 : decode cJ19_clear_2 49 = .ok (.iload_n 2, 1) := dk_28 (dk_at dksJ19_clear_2_2 3 rfl rfl)
theorem dJ19_clear_2_50 : decode cJ19_clear_2 50 = .ok (.dup2, 1) := dk_92 (dk_at dksJ19_clear_2_2 4 rfl rfl)
theorem dJ19_clear_2_51 : decode cJ19_clear_2 51 = .ok (.laload, 1) := dk_47 (dk_at dksJ19_clear_2_2 5 rfl rfl)
theorem dJ19_clear_2_52 : decode cJ19_clear_2 52 = .ok (.lconst 1, 1) := dk_10 (dk_at dksJ19_clear_2_2 6 rfl rfl)
theorem dJ19_clear_2_53 : decode cJ19_clear_2 53 = .ok (.iload_n 1, 1) := dk_27 (dk_at dksJ19_clear_2_2 7 rfl rfl)
theorem dJ19_clear_2_54 : decode cJ19_clear_2 54 = .ok (.lshl, 1) := dk_121 (dk_at dksJ19_clear_2_2 8 rfl rfl)
theorem dJ19_clear_2_55 : decode cJ19_clear_2 55 = .ok (.ldc2_w 165, 3) := dk_20 0 165 (dk_at dksJ19_clear_2_2 9 rfl rfl)
theorem dJ19_clear_2_58 : decode cJ19_clear_2 58 = .ok (.lxor, 1) := dk_131 (dk_at dksJ19_clear_2_2 12 rfl rfl)
theorem dJ19_clear_2_59 : decode cJ19_clear_2 59 = .ok (.land, 1) := dk_127 (dk_at dksJ19_clear_2_2 13 rfl rfl)
theorem dJ19_clear_2_60 : decode cJ19_clear_2 60 = .ok (.lastore, 1) := dk_80 (dk_at dksJ19_clear_2_2 14 rfl rfl)
theorem dJ19_clear_2_61 : decode cJ19_clear_2 61 = .ok (.aload_n 0, 1) := dk_42 (dk_at dksJ19_clear_2_2 15 rfl rfl)
theorem dJ19_clear_2_62 : decode cJ19_clear_2 62 = .ok (.invokevirtual 158, 3) := dk_182 0 158 (dk_at dksJ19_clear_2_2 16 rfl rfl)
theorem dJ19_clear_2_65 : decode cJ19_clear_2 65 = .ok (.aload_n 0, 1) := dk_42 (dk_at dksJ19_clear_2_2 19 rfl rfl)
theorem dJ19_clear_2_66 : decode cJ19_clear_2 66 = .ok (.invokevirtual 56, 3) := dk_182 0 56 (dk_at dksJ19_clear_2_2 20 rfl rfl)
theorem dJ19_clear_2_69 : decode cJ19_clear_2 69 = .ok (.return_, 1) := dk_177 (dk_at dksJ19_clear_2_2 23 rfl rfl)
abbrev cJ19_recalculateWordsInUse : ByteArray := prog_59_method_3_code
def yJ19_recalculateWordsInUse : MethodName := ⟨RJ19, "recalculateWordsInUse", "()V"⟩
def dkwJ19_recalculateWordsInUse_1 : List UInt8 := [167, 0, 9, 132, 1, 255, 167, 255, 235, 42, 27, 4, 96, 181, 0, 7, 177]
abbrev dktJ19_recalculateWordsInUse_1 : List UInt8 := dkwJ19_recalculateWordsInUse_1 ++ []
def dkwJ19_recalculateWordsInUse_0 : List UInt8 := [42, 180, 0, 7, 4, 100, 60, 27, 155, 0, 23, 42, 180, 0, 11, 27, 47, 9, 148, 153, 0, 6]
abbrev dktJ19_recalculateWordsInUse_0 : List UInt8 := dkwJ19_recalculateWordsInUse_0 ++ dktJ19_recalculateWordsInUse_1
theorem dksJ19_recalculateWordsInUse_0 : cJ19_recalculateWordsInUse.data.toList.drop 0 = dktJ19_recalculateWordsInUse_0 := by decide +kernel
theorem dksJ19_recalculateWordsInUse_1 : cJ19_recalculateWordsInUse.data.toList.drop 22 = dktJ19_recalculateWordsInUse_1 := dk_seg dksJ19_recalculateWordsInUse_0 22 rfl rfl
theorem dJ19_recalculateWordsInUse_0 : decode cJ19_recalculateWordsInUse 0 = .ok (.aload_n 0, 1) := dk_42 (dk_at dksJ19_recalculateWordsInUse_0 0 rfl rfl)
theorem dJ19_recalculateWordsInUse_1 : decode cJ19_recalculateWordsInUse 1 = .ok (.getfield 7, 3) := dk_180 0 7 (dk_at dksJ19_recalculateWordsInUse_0 1 rfl rfl)
theorem dJ19_recalculateWordsInUse_4 : decode cJ19_recalculateWordsInUse 4 = .ok (.iconst 1, 1) := dk_4 (dk_at dksJ19_recalculateWordsInUse_0 4 rfl rfl)
theorem dJ19_recalculateWordsInUse_5 : decode cJ19_recalculateWordsInUse 5 = .ok (.isub, 1) := dk_100 (dk_at dksJ19_recalculateWordsInUse_0 5 rfl rfl)
theorem dJ19_recalculateWordsInUse_6 : decode cJ19_recalculateWordsInUse 6 = .ok (.istore_n 1, 1) := dk_60 (dk_at dksJ19_recalculateWordsInUse_0 6 rfl rfl)
theorem dJ19_recalculateWordsInUse_7 : decode cJ19_recalculateWordsInUse 7 = .ok (.iload_n 1, 1) := dk_27 (dk_at dksJ19_recalculateWordsInUse_0 7 rfl rfl)
theorem dJ19_recalculateWordsInUse_8 : decode cJ19_recalculateWordsInUse 8 = .ok (.ifCond .lt 23, 3) := dk_155 0 23 (dk_at dksJ19_recalculateWordsInUse_0 8 rfl rfl)
theorem dJ19_recalculateWordsInUse_11 : decode cJ19_recalculateWordsInUse 11 = .ok (.aload_n 0, 1) := dk_42 (dk_at dksJ19_recalculateWordsInUse_0 11 rfl rfl)
theorem dJ19_recalculateWordsInUse_12 : decode cJ19_recalculateWordsInUse 12 = .ok (.getfield 11, 3) := dk_180 0 11 (dk_at dksJ19_recalculateWordsInUse_0 12 rfl rfl)
theorem dJ19_recalculateWordsInUse_15 : decode cJ19_recalculateWordsInUse 15 = .ok (.iload_n 1, 1) := dk_27 (dk_at dksJ19_recalculateWordsInUse_0 15 rfl rfl)
theorem dJ19_recalculateWordsInUse_16 : decode cJ19_recalculateWordsInUse 16 = .ok (.laload, 1) := dk_47 (dk_at dksJ19_recalculateWordsInUse_0 16 rfl rfl)
theorem dJ19_recalculateWordsInUse_17 : decode cJ19_recalculateWordsInUse 17 = .ok (.lconst 0, 1) := dk_9 (dk_at dksJ19_recalculateWordsInUse_0 17 rfl rfl)
theorem dJ19_recalculateWordsInUse_18 : decode cJ19_recalculateWordsInUse 18 = .ok (.lcmp, 1) := dk_148 (dk_at dksJ19_recalculateWordsInUse_0 18 rfl rfl)
theorem dJ19_recalculateWordsInUse_19 : decode cJ19_recalculateWordsInUse 19 = .ok (.ifCond .eq 6, 3) := dk_153 0 6 (dk_at dksJ19_recalculateWordsInUse_0 19 rfl rfl)
theorem dJ19_recalculateWordsInUse_22 : decode cJ19_recalculateWordsInUse 22 = .ok (.goto 9, 3) := dk_167 0 9 (dk_at dksJ19_recalculateWordsInUse_1 0 rfl rfl)
theorem dJ19_recalculateWordsInUse_25 : decode cJ19_recalculateWordsInUse 25 = .ok (.iinc 1 (-1), 3) := dk_132 1 255 (dk_at dksJ19_recalculateWordsInUse_1 3 rfl rfl)
theorem dJ19_recalculateWordsInUse_28 : decode cJ19_recalculateWordsInUse 28 = .ok (.goto (-21), 3) := dk_167 255 235 (dk_at dksJ19_recalculateWordsInUse_1 6 rfl rfl)
theorem dJ19_recalculateWordsInUse_31 : decode cJ19_recalculateWordsInUse 31 = .ok (.aload_n 0, 1) := dk_42 (dk_at dksJ19_recalculateWordsInUse_1 9 rfl rfl)
theorem dJ19_recalculateWordsInUse_32 : decode cJ19_recalculateWordsInUse 32 = .ok (.iload_n 1, 1) := dk_27 (dk_at dksJ19_recalculateWordsInUse_1 10 rfl rfl)
theorem dJ19_recalculateWordsInUse_33 : decode cJ19_recalculateWordsInUse 33 = .ok (.iconst 1, 1) := dk_4 (dk_at dksJ19_recalculateWordsInUse_1 11 rfl rfl)
theorem dJ19_recalculateWordsInUse_34 : decode cJ19_recalculateWordsInUse 34 = .ok (.iadd, 1) := dk_96 (dk_at dksJ19_recalculateWordsInUse_1 12 rfl rfl)
theorem dJ19_recalculateWordsInUse_35 : decode cJ19_recalculateWordsInUse 35 = .ok (.putfield 7, 3) := dk_181 0 7 (dk_at dksJ19_recalculateWordsInUse_1 13 rfl rfl)
theorem dJ19_recalculateWordsInUse_38 : decode cJ19_recalculateWordsInUse 38 = .ok (.return_, 1) := dk_177 (dk_at dksJ19_recalculateWordsInUse_1 16 rfl rfl)
abbrev cJ19_init_2 : ByteArray := prog_59_method_4_code
def yJ19_init_2 : MethodName := ⟨RJ19, "<init>", "()V"⟩
def dkwJ19_init_2_1 : List UInt8 := [181, 0, 24, 177]
abbrev dktJ19_init_2_1 : List UInt8 := dkwJ19_init_2_1 ++ []
def dkwJ19_init_2_0 : List UInt8 := [42, 183, 0, 21, 42, 3, 181, 0, 7, 42, 3, 181, 0, 24, 42, 16, 64, 182, 0, 27, 42, 3]
abbrev dktJ19_init_2_0 : List UInt8 := dkwJ19_init_2_0 ++ dktJ19_init_2_1
theorem dksJ19_init_2_0 : cJ19_init_2.data.toList.drop 0 = dktJ19_init_2_0 := by decide +kernel
theorem dksJ19_init_2_1 : cJ19_init_2.data.toList.drop 22 = dktJ19_init_2_1 := dk_seg dksJ19_init_2_0 22 rfl rfl
theorem dJ19_init_2_0 : decode cJ19_init_2 0 = .ok (.aload_n 0, 1) := dk_42 (dk_at dksJ19_init_2_0 0 rfl rfl)
theorem dJ19_init_2_1 : decode cJ19_init_2 1 = .ok (.invokespecial 21, 3) := dk_183 0 21 (dk_at dksJ19_init_2_0 1 rfl rfl)
theorem dJ19_init_2_4 : decode cJ19_init_2 4 = .ok (.aload_n 0, 1) := dk_42 (dk_at dksJ19_init_2_0 4 rfl rfl)
theorem dJ19_init_2_5 : decode cJ19_init_2 5 = .ok (.iconst 0, 1) := dk_3 (dk_at dksJ19_init_2_0 5 rfl rfl)
theorem dJ19_init_2_6 : decode cJ19_init_2 6 = .ok (.putfield 7, 3) := dk_181 0 7 (dk_at dksJ19_init_2_0 6 rfl rfl)
theorem dJ19_init_2_9 : decode cJ19_init_2 9 = .ok (.aload_n 0, 1) := dk_42 (dk_at dksJ19_init_2_0 9 rfl rfl)
theorem dJ19_init_2_10 : decode cJ19_init_2 10 = .ok (.iconst 0, 1) := dk_3 (dk_at dksJ19_init_2_0 10 rfl rfl)
theorem dJ19_init_2_11 : decode cJ19_init_2 11 = .ok (.putfield 24, 3) := dk_181 0 24 (dk_at dksJ19_init_2_0 11 rfl rfl)
theorem dJ19_init_2_14 : decode cJ19_init_2 14 = .ok (.aload_n 0, 1) := dk_42 (dk_at dksJ19_init_2_0 14 rfl rfl)
theorem dJ19_init_2_15 : decode cJ19_init_2 15 = .ok (.bipush 64, 2) := dk_16 64 (dk_at dksJ19_init_2_0 15 rfl rfl)
theorem dJ19_init_2_17 : decode cJ19_init_2 17 = .ok (.invokevirtual 27, 3) := dk_182 0 27 (dk_at dksJ19_init_2_0 17 rfl rfl)
theorem dJ19_init_2_20 : decode cJ19_init_2 20 = .ok (.aload_n 0, 1) := dk_42 (dk_at dksJ19_init_2_0 20 rfl rfl)
theorem dJ19_init_2_21 : decode cJ19_init_2 21 = .ok (.iconst 0, 1) := dk_3 (dk_at dksJ19_init_2_0 21 rfl rfl)
theorem dJ19_init_2_22 : decode cJ19_init_2 22 = .ok (.putfield 24, 3) := dk_181 0 24 (dk_at dksJ19_init_2_1 0 rfl rfl)
theorem dJ19_init_2_25 : decode cJ19_init_2 25 = .ok (.return_, 1) := dk_177 (dk_at dksJ19_init_2_1 3 rfl rfl)
abbrev cJ19_get : ByteArray := prog_59_method_26_code
def yJ19_get : MethodName := ⟨RJ19, "get", "(I)Z"⟩
def dkwJ19_get_2 : List UInt8 := [42, 180, 0, 11, 28, 47, 10, 27, 121, 127, 9, 148, 153, 0, 7, 4, 167, 0, 4, 3, 172]
abbrev dktJ19_get_2 : List UInt8 := dkwJ19_get_2 ++ []
def dkwJ19_get_1 : List UInt8 := [182, 0, 45, 183, 0, 146, 191, 42, 182, 0, 56, 27, 184, 0, 52, 61, 28, 42, 180, 0, 7, 162, 0, 22]
abbrev dktJ19_get_1 : List UInt8 := dkwJ19_get_1 ++ dktJ19_get_2
def dkwJ19_get_0 : List UInt8 := [27, 156, 0, 30, 187, 0, 142, 89, 187, 0, 33, 89, 183, 0, 35, 18, 153, 182, 0, 38, 27, 182, 0, 42]
abbrev dktJ19_get_0 : List UInt8 := dkwJ19_get_0 ++ dktJ19_get_1
theorem dksJ19_get_0 : cJ19_get.data.toList.drop 0 = dktJ19_get_0 := by decide +kernel
theorem dksJ19_get_1 : cJ19_get.data.toList.drop 24 = dktJ19_get_1 := dk_seg dksJ19_get_0 24 rfl rfl
theorem dksJ19_get_2 : cJ19_get.data.toList.drop 48 = dktJ19_get_2 := dk_seg dksJ19_get_1 24 rfl rfl
theorem dJ19_get_0 : decode cJ19_get 0 = .ok (.iload_n 1, 1) := dk_27 (dk_at dksJ19_get_0 0 rfl rfl)
theorem dJ19_get_1 : decode cJ19_get 1 = .ok (.ifCond .ge 30, 3) := dk_156 0 30 (dk_at dksJ19_get_0 1 rfl rfl)
theorem dJ19_get_4 : decode cJ19_get 4 = .ok (.new 142, 3) := dk_187 0 142 (dk_at dksJ19_get_0 4 rfl rfl)
theorem dJ19_get_7 : decode cJ19_get 7 = .ok (.dup, 1) := dk_89 (dk_at dksJ19_get_0 7 rfl rfl)
theorem dJ19_get_8 : decode cJ19_get 8 = .ok (.new 33, 3) := dk_187 0 33 (dk_at dksJ19_get_0 8 rfl rfl)
theorem dJ19_get_11 : decode cJ19_get 11 = .ok (.dup, 1) := dk_89 (dk_at dksJ19_get_0 11 rfl rfl)
theorem dJ19_get_12 : decode cJ19_get 12 = .ok (.invokespecial 35, 3) := dk_183 0 35 (dk_at dksJ19_get_0 12 rfl rfl)
theorem dJ19_get_15 : decode cJ19_get 15 = .ok (.ldc 153, 2) := dk_18 153 (dk_at dksJ19_get_0 15 rfl rfl)
theorem dJ19_get_17 : decode cJ19_get 17 = .ok (.invokevirtual 38, 3) := dk_182 0 38 (dk_at dksJ19_get_0 17 rfl rfl)
theorem dJ19_get_20 : decode cJ19_get 20 = .ok (.iload_n 1, 1) := dk_27 (dk_at dksJ19_get_0 20 rfl rfl)
theorem dJ19_get_21 : decode cJ19_get 21 = .ok (.invokevirtual 42, 3) := dk_182 0 42 (dk_at dksJ19_get_0 21 rfl rfl)
theorem dJ19_get_24 : decode cJ19_get 24 = .ok (.invokevirtual 45, 3) := dk_182 0 45 (dk_at dksJ19_get_1 0 rfl rfl)
theorem dJ19_get_27 : decode cJ19_get 27 = .ok (.invokespecial 146, 3) := dk_183 0 146 (dk_at dksJ19_get_1 3 rfl rfl)
theorem dJ19_get_30 : decode cJ19_get 30 = .ok (.athrow, 1) := dk_191 (dk_at dksJ19_get_1 6 rfl rfl)
theorem dJ19_get_31 : decode cJ19_get 31 = .ok (.aload_n 0, 1) := dk_42 (dk_at dksJ19_get_1 7 rfl rfl)
theorem dJ19_get_32 : decode cJ19_get 32 = .ok (.invokevirtual 56, 3) := dk_182 0 56 (dk_at dksJ19_get_1 8 rfl rfl)
theorem dJ19_get_35 : decode cJ19_get 35 = .ok (.iload_n 1, 1) := dk_27 (dk_at dksJ19_get_1 11 rfl rfl)
theorem dJ19_get_36 : decode cJ19_get 36 = .ok (.invokestatic 52, 3) := dk_184 0 52 (dk_at dksJ19_get_1 12 rfl rfl)
theorem dJ19_get_39 : decode cJ19_get 39 = .ok (.istore_n 2, 1) := dk_61 (dk_at dksJ19_get_1 15 rfl rfl)
theorem dJ19_get_40 : decode cJ19_get 40 = .ok (.iload_n 2, 1) := dk_28 (dk_at dksJ19_get_1 16 rfl rfl)
theorem dJ19_get_41 : decode cJ19_get 41 = .ok (.aload_n 0, 1) := dk_42 (dk_at dksJ19_get_1 17 rfl rfl)
theorem dJ19_get_42 : decode cJ19_get 42 = .ok (.getfield 7, 3) := dk_180 0 7 (dk_at dksJ19_get_1 18 rfl rfl)
theorem dJ19_get_45 : decode cJ19_get 45 = .ok (.if_icmp .ge 22, 3) := dk_162 0 22 (dk_at dksJ19_get_1 21 rfl rfl)
theorem dJ19_get_48 : decode cJ19_get 48 = .ok (.aload_n 0, 1) := dk_42 (dk_at dksJ19_get_2 0 rfl rfl)
theorem dJ19_get_49 : decode cJ19_get 49 = .ok (.getfield 11, 3) := dk_180 0 11 (dk_at dksJ19_get_2 1 rfl rfl)
theorem dJ19_get_52 : decode cJ19_get 52 = .ok (.iload_n 2, 1) := dk_28 (dk_at dksJ19_get_2 4 rfl rfl)
theorem dJ19_get_53 : decode cJ19_get 53 = .ok (.laload, 1) := dk_47 (dk_at dksJ19_get_2 5 rfl rfl)
theorem dJ19_get_54 : decode cJ19_get 54 = .ok (.lconst 1, 1) := dk_10 (dk_at dksJ19_get_2 6 rfl rfl)
theorem dJ19_get_55 : decode cJ19_get 55 = .ok (.iload_n 1, 1) := dk_27 (dk_at dksJ19_get_2 7 rfl rfl)
theorem dJ19_get_56 : decode cJ19_get 56 = .ok (.lshl, 1) := dk_121 (dk_at dksJ19_get_2 8 rfl rfl)
theorem dJ19_get_57 : decode cJ19_get 57 = .ok (.land, 1) := dk_127 (dk_at dksJ19_get_2 9 rfl rfl)
theorem dJ19_get_58 : decode cJ19_get 58 = .ok (.lconst 0, 1) := dk_9 (dk_at dksJ19_get_2 10 rfl rfl)
theorem dJ19_get_59 : decode cJ19_get 59 = .ok (.lcmp, 1) := dk_148 (dk_at dksJ19_get_2 11 rfl rfl)
theorem dJ19_get_60 : decode cJ19_get 60 = .ok (.ifCond .eq 7, 3) := dk_153 0 7 (dk_at dksJ19_get_2 12 rfl rfl)
theorem dJ19_get_63 : decode cJ19_get 63 = .ok (.iconst 1, 1) := dk_4 (dk_at dksJ19_get_2 15 rfl rfl)
theorem dJ19_get_64 : decode cJ19_get 64 = .ok (.goto 4, 3) := dk_167 0 4 (dk_at dksJ19_get_2 16 rfl rfl)
theorem dJ19_get_67 : decode cJ19_get 67 = .ok (.iconst 0, 1) := dk_3 (dk_at dksJ19_get_2 19 rfl rfl)
theorem dJ19_get_68 : decode cJ19_get 68 = .ok (.ireturn, 1) := dk_172 (dk_at dksJ19_get_2 20 rfl rfl)
abbrev cJ19_nextSetBit : ByteArray := prog_59_method_28_code
def yJ19_nextSetBit : MethodName := ⟨RJ19, "nextSetBit", "(I)I"⟩
def dkwJ19_nextSetBit_4 : List UInt8 := [28, 47, 66, 167, 255, 220]
abbrev dktJ19_nextSetBit_4 : List UInt8 := dkwJ19_nextSetBit_4 ++ []
def dkwJ19_nextSetBit_3 : List UInt8 := [104, 33, 184, 0, 182, 96, 172, 132, 2, 1, 28, 42, 180, 0, 7, 160, 0, 5, 2, 172, 42, 180, 0, 11]
abbrev dktJ19_nextSetBit_3 : List UInt8 := dkwJ19_nextSetBit_3 ++ dktJ19_nextSetBit_4
def dkwJ19_nextSetBit_2 : List UInt8 := [2, 172, 42, 180, 0, 11, 28, 47, 20, 0, 165, 27, 121, 127, 66, 33, 9, 148, 153, 0, 13, 28, 16, 64]
abbrev dktJ19_nextSetBit_2 : List UInt8 := dkwJ19_nextSetBit_2 ++ dktJ19_nextSetBit_3
def dkwJ19_nextSetBit_1 : List UInt8 := [182, 0, 45, 183, 0, 146, 191, 42, 182, 0, 56, 27, 184, 0, 52, 61, 28, 42, 180, 0, 7, 161, 0, 5]
abbrev dktJ19_nextSetBit_1 : List UInt8 := dkwJ19_nextSetBit_1 ++ dktJ19_nextSetBit_2
def dkwJ19_nextSetBit_0 : List UInt8 := [27, 156, 0, 30, 187, 0, 142, 89, 187, 0, 33, 89, 183, 0, 35, 18, 144, 182, 0, 38, 27, 182, 0, 42]
abbrev dktJ19_nextSetBit_0 : List UInt8 := dkwJ19_nextSetBit_0 ++ dktJ19_nextSetBit_1
theorem dksJ19_nextSetBit_0 : cJ19_nextSetBit.data.toList.drop 0 = dktJ19_nextSetBit_0 := by decide +kernel
theorem dksJ19_nextSetBit_1 : cJ19_nextSetBit.data.toList.drop 24 = dktJ19_nextSetBit_1 := dk_seg dksJ19_nextSetBit_0 24 rfl rfl
theorem dksJ19_nextSetBit_2 : cJ19_nextSetBit.data.toList.drop 48 = dktJ19_nextSetBit_2 := dk_seg dksJ19_nextSetBit_1 24 rfl rfl
theorem dksJ19_nextSetBit_3 : cJ19_nextSetBit.data.toList.drop 72 = dktJ19_nextSetBit_3 := dk_seg dksJ19_nextSetBit_2 24 rfl rfl
theorem dksJ19_nextSetBit_4 : cJ19_nextSetBit.data.toList.drop 96 = dktJ19_nextSetBit_4 := dk_seg dksJ19_nextSetBit_3 24 rfl rfl
theorem dJ19_nextSetBit_0 : decode cJ19_nextSetBit 0 = .ok (.iload_n 1, 1) := dk_27 (dk_at dksJ19_nextSetBit_0 0 rfl rfl)
theorem dJ19_nextSetBit_1 : decode cJ19_nextSetBit 1 = .ok (.ifCond .ge 30, 3) := dk_156 0 30 (dk_at dksJ19_nextSetBit_0 1 rfl rfl)
theorem dJ19_nextSetBit_4 : decode cJ19_nextSetBit 4 = .ok (.new 142, 3) := dk_187 0 142 (dk_at dksJ19_nextSetBit_0 4 rfl rfl)
theorem dJ19_nextSetBit_7 : decode cJ19_nextSetBit 7 = .ok (.dup, 1) := dk_89 (dk_at dksJ19_nextSetBit_0 7 rfl rfl)
theorem dJ19_nextSetBit_8 : decode cJ19_nextSetBit 8 = .ok (.new 33, 3) := dk_187 0 33 (dk_at dksJ19_nextSetBit_0 8 rfl rfl)
theorem dJ19_nextSetBit_11 : decode cJ19_nextSetBit 11 = .ok (.dup, 1) := dk_89 (dk_at dksJ19_nextSetBit_0 11 rfl rfl)
theorem dJ19_nextSetBit_12 : decode cJ19_nextSetBit 12 = .ok (.invokespecial 35, 3) := dk_183 0 35 (dk_at dksJ19_nextSetBit_0 12 rfl rfl)
theorem dJ19_nextSetBit_15 : decode cJ19_nextSetBit 15 = .ok (.ldc 144, 2) := dk_18 144 (dk_at dksJ19_nextSetBit_0 15 rfl rfl)
theorem dJ19_nextSetBit_17 : decode cJ19_nextSetBit 17 = .ok (.invokevirtual 38, 3) := dk_182 0 38 (dk_at dksJ19_nextSetBit_0 17 rfl rfl)
theorem dJ19_nextSetBit_20 : decode cJ19_nextSetBit 20 = .ok (.iload_n 1, 1) := dk_27 (dk_at dksJ19_nextSetBit_0 20 rfl rfl)
theorem dJ19_nextSetBit_21 : decode cJ19_nextSetBit 21 = .ok (.invokevirtual 42, 3) := dk_182 0 42 (dk_at dksJ19_nextSetBit_0 21 rfl rfl)
theorem dJ19_nextSetBit_24 : decode cJ19_nextSetBit 24 = .ok (.invokevirtual 45, 3) := dk_182 0 45 (dk_at dksJ19_nextSetBit_1 0 rfl rfl)
theorem dJ19_nextSetBit_27 : decode cJ19_nextSetBit 27 = .ok (.invokespecial 146, 3) := dk_183 0 146 (dk_at dksJ19_nextSetBit_1 3 rfl rfl)
theorem dJ19_nextSetBit_30 : decode cJ19_nextSetBit 30 = .ok (.athrow, 1) := dk_191 (dk_at dksJ19_nextSetBit_1 6 rfl rfl)
theorem dJ19_nextSetBit_31 : decode cJ19_nextSetBit 31 = .ok (.aload_n 0, 1) := dk_42 (dk_at dksJ19_nextSetBit_1 7 rfl rfl)
theorem dJ19_nextSetBit_32 : decode cJ19_nextSetBit 32 = .ok (.invokevirtual 56, 3) := dk_182 0 56 (dk_at dksJ19_nextSetBit_1 8 rfl rfl)
theorem dJ19_nextSetBit_35 : decode cJ19_nextSetBit 35 = .ok (.iload_n 1, 1) := dk_27 (dk_at dksJ19_nextSetBit_1 11 rfl rfl)
theorem dJ19_nextSetBit_36 : decode cJ19_nextSetBit 36 = .ok (.invokestatic 52, 3) := dk_184 0 52 (dk_at dksJ19_nextSetBit_1 12 rfl rfl)
theorem dJ19_nextSetBit_39 : decode cJ19_nextSetBit 39 = .ok (.istore_n 2, 1) := dk_61 (dk_at dksJ19_nextSetBit_1 15 rfl rfl)
theorem dJ19_nextSetBit_40 : decode cJ19_nextSetBit 40 = .ok (.iload_n 2, 1) := dk_28 (dk_at dksJ19_nextSetBit_1 16 rfl rfl)
theorem dJ19_nextSetBit_41 : decode cJ19_nextSetBit 41 = .ok (.aload_n 0, 1) := dk_42 (dk_at dksJ19_nextSetBit_1 17 rfl rfl)
theorem dJ19_nextSetBit_42 : decode cJ19_nextSetBit 42 = .ok (.getfield 7, 3) := dk_180 0 7 (dk_at dksJ19_nextSetBit_1 18 rfl rfl)
theorem dJ19_nextSetBit_45 : decode cJ19_nextSetBit 45 = .ok (.if_icmp .lt 5, 3) := dk_161 0 5 (dk_at dksJ19_nextSetBit_1 21 rfl rfl)
theorem dJ19_nextSetBit_48 : decode cJ19_nextSetBit 48 = .ok (.iconst (-1), 1) := dk_2 (dk_at dksJ19_nextSetBit_2 0 rfl rfl)
theorem dJ19_nextSetBit_49 : decode cJ19_nextSetBit 49 = .ok (.ireturn, 1) := dk_172 (dk_at dksJ19_nextSetBit_2 1 rfl rfl)
theorem dJ19_nextSetBit_50 : decode cJ19_nextSetBit 50 = .ok (.aload_n 0, 1) := dk_42 (dk_at dksJ19_nextSetBit_2 2 rfl rfl)
theorem dJ19_nextSetBit_51 : decode cJ19_nextSetBit 51 = .ok (.getfield 11, 3) := dk_180 0 11 (dk_at dksJ19_nextSetBit_2 3 rfl rfl)
theorem dJ19_nextSetBit_54 : decode cJ19_nextSetBit 54 = .ok (.iload_n 2, 1) := dk_28 (dk_at dksJ19_nextSetBit_2 6 rfl rfl)
theorem dJ19_nextSetBit_55 : decode cJ19_nextSetBit 55 = .ok (.laload, 1) := dk_47 (dk_at dksJ19_nextSetBit_2 7 rfl rfl)
theorem dJ19_nextSetBit_56 : decode cJ19_nextSetBit 56 = .ok (.ldc2_w 165, 3) := dk_20 0 165 (dk_at dksJ19_nextSetBit_2 8 rfl rfl)
theorem dJ19_nextSetBit_59 : decode cJ19_nextSetBit 59 = .ok (.iload_n 1, 1) := dk_27 (dk_at dksJ19_nextSetBit_2 11 rfl rfl)
theorem dJ19_nextSetBit_60 : decode cJ19_nextSetBit 60 = .ok (.lshl, 1) := dk_121 (dk_at dksJ19_nextSetBit_2 12 rfl rfl)
theorem dJ19_nextSetBit_61 : decode cJ19_nextSetBit 61 = .ok (.land, 1) := dk_127 (dk_at dksJ19_nextSetBit_2 13 rfl rfl)
theorem dJ19_nextSetBit_62 : decode cJ19_nextSetBit 62 = .ok (.lstore_n 3, 1) := dk_66 (dk_at dksJ19_nextSetBit_2 14 rfl rfl)
theorem dJ19_nextSetBit_63 : decode cJ19_nextSetBit 63 = .ok (.lload_n 3, 1) := dk_33 (dk_at dksJ19_nextSetBit_2 15 rfl rfl)
theorem dJ19_nextSetBit_64 : decode cJ19_nextSetBit 64 = .ok (.lconst 0, 1) := dk_9 (dk_at dksJ19_nextSetBit_2 16 rfl rfl)
theorem dJ19_nextSetBit_65 : decode cJ19_nextSetBit 65 = .ok (.lcmp, 1) := dk_148 (dk_at dksJ19_nextSetBit_2 17 rfl rfl)
theorem dJ19_nextSetBit_66 : decode cJ19_nextSetBit 66 = .ok (.ifCond .eq 13, 3) := dk_153 0 13 (dk_at dksJ19_nextSetBit_2 18 rfl rfl)
theorem dJ19_nextSetBit_69 : decode cJ19_nextSetBit 69 = .ok (.iload_n 2, 1) := dk_28 (dk_at dksJ19_nextSetBit_2 21 rfl rfl)
theorem dJ19_nextSetBit_70 : decode cJ19_nextSetBit 70 = .ok (.bipush 64, 2) := dk_16 64 (dk_at dksJ19_nextSetBit_2 22 rfl rfl)
theorem dJ19_nextSetBit_72 : decode cJ19_nextSetBit 72 = .ok (.imul, 1) := dk_104 (dk_at dksJ19_nextSetBit_3 0 rfl rfl)
theorem dJ19_nextSetBit_73 : decode cJ19_nextSetBit 73 = .ok (.lload_n 3, 1) := dk_33 (dk_at dksJ19_nextSetBit_3 1 rfl rfl)
theorem dJ19_nextSetBit_74 : decode cJ19_nextSetBit 74 = .ok (.invokestatic 182, 3) := dk_184 0 182 (dk_at dksJ19_nextSetBit_3 2 rfl rfl)
theorem dJ19_nextSetBit_77 : decode cJ19_nextSetBit 77 = .ok (.iadd, 1) := dk_96 (dk_at dksJ19_nextSetBit_3 5 rfl rfl)
theorem dJ19_nextSetBit_78 : decode cJ19_nextSetBit 78 = .ok (.ireturn, 1) := dk_172 (dk_at dksJ19_nextSetBit_3 6 rfl rfl)
theorem dJ19_nextSetBit_79 : decode cJ19_nextSetBit 79 = .ok (.iinc 2 1, 3) := dk_132 2 1 (dk_at dksJ19_nextSetBit_3 7 rfl rfl)
theorem dJ19_nextSetBit_82 : decode cJ19_nextSetBit 82 = .ok (.iload_n 2, 1) := dk_28 (dk_at dksJ19_nextSetBit_3 10 rfl rfl)
theorem dJ19_nextSetBit_83 : decode cJ19_nextSetBit 83 = .ok (.aload_n 0, 1) := dk_42 (dk_at dksJ19_nextSetBit_3 11 rfl rfl)
theorem dJ19_nextSetBit_84 : decode cJ19_nextSetBit 84 = .ok (.getfield 7, 3) := dk_180 0 7 (dk_at dksJ19_nextSetBit_3 12 rfl rfl)
theorem dJ19_nextSetBit_87 : decode cJ19_nextSetBit 87 = .ok (.if_icmp .ne 5, 3) := dk_160 0 5 (dk_at dksJ19_nextSetBit_3 15 rfl rfl)
theorem dJ19_nextSetBit_90 : decode cJ19_nextSetBit 90 = .ok (.iconst (-1), 1) := dk_2 (dk_at dksJ19_nextSetBit_3 18 rfl rfl)
theorem dJ19_nextSetBit_91 : decode cJ19_nextSetBit 91 = .ok (.ireturn, 1) := dk_172 (dk_at dksJ19_nextSetBit_3 19 rfl rfl)
theorem dJ19_nextSetBit_92 : decode cJ19_nextSetBit 92 = .ok (.aload_n 0, 1) := dk_42 (dk_at dksJ19_nextSetBit_3 20 rfl rfl)
theorem dJ19_nextSetBit_93 : decode cJ19_nextSetBit 93 = .ok (.getfield 11, 3) := dk_180 0 11 (dk_at dksJ19_nextSetBit_3 21 rfl rfl)
theorem dJ19_nextSetBit_96 : decode cJ19_nextSetBit 96 = .ok (.iload_n 2, 1) := dk_28 (dk_at dksJ19_nextSetBit_4 0 rfl rfl)
theorem dJ19_nextSetBit_97 : decode cJ19_nextSetBit 97 = .ok (.laload, 1) := dk_47 (dk_at dksJ19_nextSetBit_4 1 rfl rfl)
theorem dJ19_nextSetBit_98 : decode cJ19_nextSetBit 98 = .ok (.lstore_n 3, 1) := dk_66 (dk_at dksJ19_nextSetBit_4 2 rfl rfl)
theorem dJ19_nextSetBit_99 : decode cJ19_nextSetBit 99 = .ok (.goto (-36), 3) := dk_167 255 220 (dk_at dksJ19_nextSetBit_4 3 rfl rfl)
abbrev cJ19_nextClearBit : ByteArray := prog_59_method_29_code
def yJ19_nextClearBit : MethodName := ⟨RJ19, "nextClearBit", "(I)I"⟩
def dkwJ19_nextClearBit_4 : List UInt8 := [42, 180, 0, 7, 16, 64, 104, 172, 42, 180, 0, 11, 28, 47, 20, 0, 165, 131, 66, 167, 255, 210]
abbrev dktJ19_nextClearBit_4 : List UInt8 := dkwJ19_nextClearBit_4 ++ []
def dkwJ19_nextClearBit_3 : List UInt8 := [153, 0, 13, 28, 16, 64, 104, 33, 184, 0, 182, 96, 172, 132, 2, 1, 28, 42, 180, 0, 7, 160, 0, 11]
abbrev dktJ19_nextClearBit_3 : List UInt8 := dkwJ19_nextClearBit_3 ++ dktJ19_nextClearBit_4
def dkwJ19_nextClearBit_2 : List UInt8 := [27, 172, 42, 180, 0, 11, 28, 47, 20, 0, 165, 131, 20, 0, 165, 27, 121, 127, 66, 33, 9, 148]
abbrev dktJ19_nextClearBit_2 : List UInt8 := dkwJ19_nextClearBit_2 ++ dktJ19_nextClearBit_3
def dkwJ19_nextClearBit_1 : List UInt8 := [182, 0, 45, 183, 0, 146, 191, 42, 182, 0, 56, 27, 184, 0, 52, 61, 28, 42, 180, 0, 7, 161, 0, 5]
abbrev dktJ19_nextClearBit_1 : List UInt8 := dkwJ19_nextClearBit_1 ++ dktJ19_nextClearBit_2
def dkwJ19_nextClearBit_0 : List UInt8 := [27, 156, 0, 30, 187, 0, 142, 89, 187, 0, 33, 89, 183, 0, 35, 18, 144, 182, 0, 38, 27, 182, 0, 42]
abbrev dktJ19_nextClearBit_0 : List UInt8 := dkwJ19_nextClearBit_0 ++ dktJ19_nextClearBit_1
theorem dksJ19_nextClearBit_0 : cJ19_nextClearBit.data.toList.drop 0 = dktJ19_nextClearBit_0 := by decide +kernel
theorem dksJ19_nextClearBit_1 : cJ19_nextClearBit.data.toList.drop 24 = dktJ19_nextClearBit_1 := dk_seg dksJ19_nextClearBit_0 24 rfl rfl
theorem dksJ19_nextClearBit_2 : cJ19_nextClearBit.data.toList.drop 48 = dktJ19_nextClearBit_2 := dk_seg dksJ19_nextClearBit_1 24 rfl rfl
theorem dksJ19_nextClearBit_3 : cJ19_nextClearBit.data.toList.drop 70 = dktJ19_nextClearBit_3 := dk_seg dksJ19_nextClearBit_2 22 rfl rfl
theorem dksJ19_nextClearBit_4 : cJ19_nextClearBit.data.toList.drop 94 = dktJ19_nextClearBit_4 := dk_seg dksJ19_nextClearBit_3 24 rfl rfl
theorem dJ19_nextClearBit_0 : decode cJ19_nextClearBit 0 = .ok (.iload_n 1, 1) := dk_27 (dk_at dksJ19_nextClearBit_0 0 rfl rfl)
theorem dJ19_nextClearBit_1 : decode cJ19_nextClearBit 1 = .ok (.ifCond .ge 30, 3) := dk_156 0 30 (dk_at dksJ19_nextClearBit_0 1 rfl rfl)
theorem dJ19_nextClearBit_4 : decode cJ19_nextClearBit 4 = .ok (.new 142, 3) := dk_187 0 142 (dk_at dksJ19_nextClearBit_0 4 rfl rfl)
theorem dJ19_nextClearBit_7 : decode cJ19_nextClearBit 7 = .ok (.dup, 1) := dk_89 (dk_at dksJ19_nextClearBit_0 7 rfl rfl)
theorem dJ19_nextClearBit_8 : decode cJ19_nextClearBit 8 = .ok (.new 33, 3) := dk_187 0 33 (dk_at dksJ19_nextClearBit_0 8 rfl rfl)
theorem dJ19_nextClearBit_11 : decode cJ19_nextClearBit 11 = .ok (.dup, 1) := dk_89 (dk_at dksJ19_nextClearBit_0 11 rfl rfl)
theorem dJ19_nextClearBit_12 : decode cJ19_nextClearBit 12 = .ok (.invokespecial 35, 3) := dk_183 0 35 (dk_at dksJ19_nextClearBit_0 12 rfl rfl)
theorem dJ19_nextClearBit_15 : decode cJ19_nextClearBit 15 = .ok (.ldc 144, 2) := dk_18 144 (dk_at dksJ19_nextClearBit_0 15 rfl rfl)
theorem dJ19_nextClearBit_17 : decode cJ19_nextClearBit 17 = .ok (.invokevirtual 38, 3) := dk_182 0 38 (dk_at dksJ19_nextClearBit_0 17 rfl rfl)
theorem dJ19_nextClearBit_20 : decode cJ19_nextClearBit 20 = .ok (.iload_n 1, 1) := dk_27 (dk_at dksJ19_nextClearBit_0 20 rfl rfl)
theorem dJ19_nextClearBit_21 : decode cJ19_nextClearBit 21 = .ok (.invokevirtual 42, 3) := dk_182 0 42 (dk_at dksJ19_nextClearBit_0 21 rfl rfl)
theorem dJ19_nextClearBit_24 : decode cJ19_nextClearBit 24 = .ok (.invokevirtual 45, 3) := dk_182 0 45 (dk_at dksJ19_nextClearBit_1 0 rfl rfl)
theorem dJ19_nextClearBit_27 : decode cJ19_nextClearBit 27 = .ok (.invokespecial 146, 3) := dk_183 0 146 (dk_at dksJ19_nextClearBit_1 3 rfl rfl)
theorem dJ19_nextClearBit_30 : decode cJ19_nextClearBit 30 = .ok (.athrow, 1) := dk_191 (dk_at dksJ19_nextClearBit_1 6 rfl rfl)
theorem dJ19_nextClearBit_31 : decode cJ19_nextClearBit 31 = .ok (.aload_n 0, 1) := dk_42 (dk_at dksJ19_nextClearBit_1 7 rfl rfl)
theorem dJ19_nextClearBit_32 : decode cJ19_nextClearBit 32 = .ok (.invokevirtual 56, 3) := dk_182 0 56 (dk_at dksJ19_nextClearBit_1 8 rfl rfl)
theorem dJ19_nextClearBit_35 : decode cJ19_nextClearBit 35 = .ok (.iload_n 1, 1) := dk_27 (dk_at dksJ19_nextClearBit_1 11 rfl rfl)
theorem dJ19_nextClearBit_36 : decode cJ19_nextClearBit 36 = .ok (.invokestatic 52, 3) := dk_184 0 52 (dk_at dksJ19_nextClearBit_1 12 rfl rfl)
theorem dJ19_nextClearBit_39 : decode cJ19_nextClearBit 39 = .ok (.istore_n 2, 1) := dk_61 (dk_at dksJ19_nextClearBit_1 15 rfl rfl)
theorem dJ19_nextClearBit_40 : decode cJ19_nextClearBit 40 = .ok (.iload_n 2, 1) := dk_28 (dk_at dksJ19_nextClearBit_1 16 rfl rfl)
theorem dJ19_nextClearBit_41 : decode cJ19_nextClearBit 41 = .ok (.aload_n 0, 1) := dk_42 (dk_at dksJ19_nextClearBit_1 17 rfl rfl)
theorem dJ19_nextClearBit_42 : decode cJ19_nextClearBit 42 = .ok (.getfield 7, 3) := dk_180 0 7 (dk_at dksJ19_nextClearBit_1 18 rfl rfl)
theorem dJ19_nextClearBit_45 : decode cJ19_nextClearBit 45 = .ok (.if_icmp .lt 5, 3) := dk_161 0 5 (dk_at dksJ19_nextClearBit_1 21 rfl rfl)
theorem dJ19_nextClearBit_48 : decode cJ19_nextClearBit 48 = .ok (.iload_n 1, 1) := dk_27 (dk_at dksJ19_nextClearBit_2 0 rfl rfl)
theorem dJ19_nextClearBit_49 : decode cJ19_nextClearBit 49 = .ok (.ireturn, 1) := dk_172 (dk_at dksJ19_nextClearBit_2 1 rfl rfl)
theorem dJ19_nextClearBit_50 : decode cJ19_nextClearBit 50 = .ok (.aload_n 0, 1) := dk_42 (dk_at dksJ19_nextClearBit_2 2 rfl rfl)
theorem dJ19_nextClearBit_51 : decode cJ19_nextClearBit 51 = .ok (.getfield 11, 3) := dk_180 0 11 (dk_at dksJ19_nextClearBit_2 3 rfl rfl)
theorem dJ19_nextClearBit_54 : decode cJ19_nextClearBit 54 = .ok (.iload_n 2, 1) := dk_28 (dk_at dksJ19_nextClearBit_2 6 rfl rfl)
theorem dJ19_nextClearBit_55 : decode cJ19_nextClearBit 55 = .ok (.laload, 1) := dk_47 (dk_at dksJ19_nextClearBit_2 7 rfl rfl)
theorem dJ19_nextClearBit_56 : decode cJ19_nextClearBit 56 = .ok (.ldc2_w 165, 3) := dk_20 0 165 (dk_at dksJ19_nextClearBit_2 8 rfl rfl)
theorem dJ19_nextClearBit_59 : decode cJ19_nextClearBit 59 = .ok (.lxor, 1) := dk_131 (dk_at dksJ19_nextClearBit_2 11 rfl rfl)
theorem dJ19_nextClearBit_60 : decode cJ19_nextClearBit 60 = .ok (.ldc2_w 165, 3) := dk_20 0 165 (dk_at dksJ19_nextClearBit_2 12 rfl rfl)
theorem dJ19_nextClearBit_63 : decode cJ19_nextClearBit 63 = .ok (.iload_n 1, 1) := dk_27 (dk_at dksJ19_nextClearBit_2 15 rfl rfl)
theorem dJ19_nextClearBit_64 : decode cJ19_nextClearBit 64 = .ok (.lshl, 1) := dk_121 (dk_at dksJ19_nextClearBit_2 16 rfl rfl)
theorem dJ19_nextClearBit_65 : decode cJ19_nextClearBit 65 = .ok (.land, 1) := dk_127 (dk_at dksJ19_nextClearBit_2 17 rfl rfl)
theorem dJ19_nextClearBit_66 : decode cJ19_nextClearBit 66 = .ok (.lstore_n 3, 1) := dk_66 (dk_at dksJ19_nextClearBit_2 18 rfl rfl)
theorem dJ19_nextClearBit_67 : decode cJ19_nextClearBit 67 = .ok (.lload_n 3, 1) := dk_33 (dk_at dksJ19_nextClearBit_2 19 rfl rfl)
theorem dJ19_nextClearBit_68 : decode cJ19_nextClearBit 68 = .ok (.lconst 0, 1) := dk_9 (dk_at dksJ19_nextClearBit_2 20 rfl rfl)
theorem dJ19_nextClearBit_69 : decode cJ19_nextClearBit 69 = .ok (.lcmp, 1) := dk_148 (dk_at dksJ19_nextClearBit_2 21 rfl rfl)
theorem dJ19_nextClearBit_70 : decode cJ19_nextClearBit 70 = .ok (.ifCond .eq 13, 3) := dk_153 0 13 (dk_at dksJ19_nextClearBit_3 0 rfl rfl)
theorem dJ19_nextClearBit_73 : decode cJ19_nextClearBit 73 = .ok (.iload_n 2, 1) := dk_28 (dk_at dksJ19_nextClearBit_3 3 rfl rfl)
theorem dJ19_nextClearBit_74 : decode cJ19_nextClearBit 74 = .ok (.bipush 64, 2) := dk_16 64 (dk_at dksJ19_nextClearBit_3 4 rfl rfl)
theorem dJ19_nextClearBit_76 : decode cJ19_nextClearBit 76 = .ok (.imul, 1) := dk_104 (dk_at dksJ19_nextClearBit_3 6 rfl rfl)
theorem dJ19_nextClearBit_77 : decode cJ19_nextClearBit 77 = .ok (.lload_n 3, 1) := dk_33 (dk_at dksJ19_nextClearBit_3 7 rfl rfl)
theorem dJ19_nextClearBit_78 : decode cJ19_nextClearBit 78 = .ok (.invokestatic 182, 3) := dk_184 0 182 (dk_at dksJ19_nextClearBit_3 8 rfl rfl)
theorem dJ19_nextClearBit_81 : decode cJ19_nextClearBit 81 = .ok (.iadd, 1) := dk_96 (dk_at dksJ19_nextClearBit_3 11 rfl rfl)
theorem dJ19_nextClearBit_82 : decode cJ19_nextClearBit 82 = .ok (.ireturn, 1) := dk_172 (dk_at dksJ19_nextClearBit_3 12 rfl rfl)
theorem dJ19_nextClearBit_83 : decode cJ19_nextClearBit 83 = .ok (.iinc 2 1, 3) := dk_132 2 1 (dk_at dksJ19_nextClearBit_3 13 rfl rfl)
theorem dJ19_nextClearBit_86 : decode cJ19_nextClearBit 86 = .ok (.iload_n 2, 1) := dk_28 (dk_at dksJ19_nextClearBit_3 16 rfl rfl)
theorem dJ19_nextClearBit_87 : decode cJ19_nextClearBit 87 = .ok (.aload_n 0, 1) := dk_42 (dk_at dksJ19_nextClearBit_3 17 rfl rfl)
theorem dJ19_nextClearBit_88 : decode cJ19_nextClearBit 88 = .ok (.getfield 7, 3) := dk_180 0 7 (dk_at dksJ19_nextClearBit_3 18 rfl rfl)
theorem dJ19_nextClearBit_91 : decode cJ19_nextClearBit 91 = .ok (.if_icmp .ne 11, 3) := dk_160 0 11 (dk_at dksJ19_nextClearBit_3 21 rfl rfl)
theorem dJ19_nextClearBit_94 : decode cJ19_nextClearBit 94 = .ok (.aload_n 0, 1) := dk_42 (dk_at dksJ19_nextClearBit_4 0 rfl rfl)
theorem dJ19_nextClearBit_95 : decode cJ19_nextClearBit 95 = .ok (.getfield 7, 3) := dk_180 0 7 (dk_at dksJ19_nextClearBit_4 1 rfl rfl)
theorem dJ19_nextClearBit_98 : decode cJ19_nextClearBit 98 = .ok (.bipush 64, 2) := dk_16 64 (dk_at dksJ19_nextClearBit_4 4 rfl rfl)
theorem dJ19_nextClearBit_100 : decode cJ19_nextClearBit 100 = .ok (.imul, 1) := dk_104 (dk_at dksJ19_nextClearBit_4 6 rfl rfl)
theorem dJ19_nextClearBit_101 : decode cJ19_nextClearBit 101 = .ok (.ireturn, 1) := dk_172 (dk_at dksJ19_nextClearBit_4 7 rfl rfl)
theorem dJ19_nextClearBit_102 : decode cJ19_nextClearBit 102 = .ok (.aload_n 0, 1) := dk_42 (dk_at dksJ19_nextClearBit_4 8 rfl rfl)
theorem dJ19_nextClearBit_103 : decode cJ19_nextClearBit 103 = .ok (.getfield 11, 3) := dk_180 0 11 (dk_at dksJ19_nextClearBit_4 9 rfl rfl)
theorem dJ19_nextClearBit_106 : decode cJ19_nextClearBit 106 = .ok (.iload_n 2, 1) := dk_28 (dk_at dksJ19_nextClearBit_4 12 rfl rfl)
theorem dJ19_nextClearBit_107 : decode cJ19_nextClearBit 107 = .ok (.laload, 1) := dk_47 (dk_at dksJ19_nextClearBit_4 13 rfl rfl)
theorem dJ19_nextClearBit_108 : decode cJ19_nextClearBit 108 = .ok (.ldc2_w 165, 3) := dk_20 0 165 (dk_at dksJ19_nextClearBit_4 14 rfl rfl)
theorem dJ19_nextClearBit_111 : decode cJ19_nextClearBit 111 = .ok (.lxor, 1) := dk_131 (dk_at dksJ19_nextClearBit_4 17 rfl rfl)
theorem dJ19_nextClearBit_112 : decode cJ19_nextClearBit 112 = .ok (.lstore_n 3, 1) := dk_66 (dk_at dksJ19_nextClearBit_4 18 rfl rfl)
theorem dJ19_nextClearBit_113 : decode cJ19_nextClearBit 113 = .ok (.goto (-46), 3) := dk_167 255 210 (dk_at dksJ19_nextClearBit_4 19 rfl rfl)
theorem q142 : (Jvm.Cond.initialized "java/util/BitSet") ∈ lw_all := lw_g (lw_at lw_m1 27 rfl) rfl
theorem q625 : (Jvm.Cond.instantiable "java/util/BitSet" (3 : Nat)) ∈ lw_all := lw_g (lw_at lw_m3 30 rfl) rfl
theorem q627 : (Jvm.Cond.instanceMethod ({ cls := "java/util/BitSet", name := "<init>", desc := "(I)V" } : Jvm.MethodName)) ∈ lw_all := lw_g (lw_at lw_m3 32 rfl) rfl
theorem q628 : (Jvm.Cond.code ({ cls := "java/util/BitSet", name := "<init>", desc := "(I)V" } : Jvm.MethodName) prog_59_method_5_code (2 : Nat) (Option.none : Option Jvm.ClassFile.FieldType)) ∈ lw_all := lw_g (lw_at lw_m3 33 rfl) rfl
theorem q629 : (Jvm.Cond.methodLink "java/util/BitSet" (21 : Nat) ({ cls := "java/lang/Object", name := "<init>", desc := "()V" } : Jvm.MethodName)) ∈ lw_all := lw_g (lw_at lw_m3 34 rfl) rfl
theorem q630 : (Jvm.Cond.methodLink "java/util/BitSet" (27 : Nat) ({ cls := "java/util/BitSet", name := "initWords", desc := "(I)V" } : Jvm.MethodName)) ∈ lw_all := lw_g (lw_at lw_m3 35 rfl) rfl
theorem q631 : (Jvm.Cond.privateMethod ({ cls := "java/util/BitSet", name := "initWords", desc := "(I)V" } : Jvm.MethodName)) ∈ lw_tbl := lw_at lw_m3 36 rfl
theorem q632 : (Jvm.Cond.instanceMethod ({ cls := "java/util/BitSet", name := "initWords", desc := "(I)V" } : Jvm.MethodName)) ∈ lw_all := lw_g (lw_at lw_m3 37 rfl) rfl
theorem q633 : (Jvm.Cond.code ({ cls := "java/util/BitSet", name := "initWords", desc := "(I)V" } : Jvm.MethodName) prog_59_method_6_code (2 : Nat) (Option.none : Option Jvm.ClassFile.FieldType)) ∈ lw_all := lw_g (lw_at lw_m3 38 rfl) rfl
theorem q634 : (Jvm.Cond.methodLink "java/util/BitSet" (52 : Nat) ({ cls := "java/util/BitSet", name := "wordIndex", desc := "(I)I" } : Jvm.MethodName)) ∈ lw_all := lw_g (lw_at lw_m3 39 rfl) rfl
theorem q635 : (Jvm.Cond.static ({ cls := "java/util/BitSet", name := "wordIndex", desc := "(I)I" } : Jvm.MethodName)) ∈ lw_all := lw_g (lw_at lw_m3 40 rfl) rfl
theorem q636 : (Jvm.Cond.code ({ cls := "java/util/BitSet", name := "wordIndex", desc := "(I)I" } : Jvm.MethodName) prog_59_method_1_code (1 : Nat) (Option.some Jvm.ClassFile.FieldType.int)) ∈ lw_all := lw_g (lw_at lw_m3 41 rfl) rfl
theorem q637 : (Jvm.Cond.fieldLink "java/util/BitSet" (11 : Nat) "java/util/BitSet" "words" "[J") ∈ lw_all := lw_g (lw_at lw_m3 42 rfl) rfl
theorem q638 : (Jvm.Cond.fieldLink "java/util/BitSet" (7 : Nat) "java/util/BitSet" "wordsInUse" "I") ∈ lw_all := lw_g (lw_at lw_m3 43 rfl) rfl
theorem q639 : (Jvm.Cond.fieldLink "java/util/BitSet" (24 : Nat) "java/util/BitSet" "sizeIsSticky" "Z") ∈ lw_all := lw_g (lw_at lw_m3 44 rfl) rfl
theorem q640 : (Jvm.Cond.lays "java/util/BitSet" "java/util/BitSet" "words" "[J") ∈ lw_all := lw_g (lw_at lw_m3 45 rfl) rfl
theorem q641 : (Jvm.Cond.soleField "java/util/BitSet" "words") ∈ lw_all := lw_g (lw_at lw_m3 46 rfl) rfl
theorem q642 : (Jvm.Cond.lays "java/util/BitSet" "java/util/BitSet" "wordsInUse" "I") ∈ lw_all := lw_g (lw_at lw_m3 47 rfl) rfl
theorem q643 : (Jvm.Cond.soleField "java/util/BitSet" "wordsInUse") ∈ lw_all := lw_g (lw_at lw_m3 48 rfl) rfl
theorem q644 : (Jvm.Cond.lays "java/util/BitSet" "java/util/BitSet" "sizeIsSticky" "Z") ∈ lw_all := lw_g (lw_at lw_m3 49 rfl) rfl
theorem q645 : (Jvm.Cond.soleField "java/util/BitSet" "sizeIsSticky") ∈ lw_all := lw_g (lw_at lw_m3 50 rfl) rfl
theorem q646 : (Jvm.Cond.superclass "java/util/BitSet" "java/lang/Object") ∈ lw_all := lw_g (lw_at lw_m3 51 rfl) rfl
theorem q878 : (Jvm.Cond.selects "java/util/BitSet" ({ cls := "java/lang/Object", name := "getClass", desc := "()Ljava/lang/Class;" } : Jvm.MethodName) ({ cls := "java/lang/Object", name := "getClass", desc := "()Ljava/lang/Class;" } : Jvm.MethodName)) ∈ lw_all := lw_g (lw_at lw_m4 43 rfl) rfl
theorem q1128 : (Jvm.Cond.instanceMethod ({ cls := "java/util/BitSet", name := "clear", desc := "()V" } : Jvm.MethodName)) ∈ lw_all := lw_g (lw_at lw_m5 53 rfl) rfl
theorem q1129 : (Jvm.Cond.selects "java/util/BitSet" ({ cls := "java/util/BitSet", name := "clear", desc := "()V" } : Jvm.MethodName) ({ cls := "java/util/BitSet", name := "clear", desc := "()V" } : Jvm.MethodName)) ∈ lw_all := lw_g (lw_at lw_m5 54 rfl) rfl
theorem q1130 : (Jvm.Cond.code ({ cls := "java/util/BitSet", name := "clear", desc := "()V" } : Jvm.MethodName) prog_59_method_25_code (1 : Nat) (Option.none : Option Jvm.ClassFile.FieldType)) ∈ lw_all := lw_g (lw_at lw_m5 55 rfl) rfl
theorem q1132 : (Jvm.Cond.instanceMethod ({ cls := "java/util/BitSet", name := "or", desc := "(Ljava/util/BitSet;)V" } : Jvm.MethodName)) ∈ lw_all := lw_g (lw_at lw_m5 57 rfl) rfl
theorem q1133 : (Jvm.Cond.selects "java/util/BitSet" ({ cls := "java/util/BitSet", name := "or", desc := "(Ljava/util/BitSet;)V" } : Jvm.MethodName) ({ cls := "java/util/BitSet", name := "or", desc := "(Ljava/util/BitSet;)V" } : Jvm.MethodName)) ∈ lw_all := lw_g (lw_at lw_m5 58 rfl) rfl
theorem q1134 : (Jvm.Cond.code ({ cls := "java/util/BitSet", name := "or", desc := "(Ljava/util/BitSet;)V" } : Jvm.MethodName) prog_59_method_37_code (4 : Nat) (Option.none : Option Jvm.ClassFile.FieldType)) ∈ lw_all := lw_g (lw_at lw_m5 59 rfl) rfl
theorem q1135 : (Jvm.Cond.methodLink "java/util/BitSet" (193 : Nat) ({ cls := "java/lang/Math", name := "min", desc := "(II)I" } : Jvm.MethodName)) ∈ lw_all := lw_g (lw_at lw_m5 60 rfl) rfl
theorem q1136 : (Jvm.Cond.methodLink "java/util/BitSet" (139 : Nat) ({ cls := "java/util/BitSet", name := "ensureCapacity", desc := "(I)V" } : Jvm.MethodName)) ∈ lw_all := lw_g (lw_at lw_m5 61 rfl) rfl
theorem q1137 : (Jvm.Cond.privateMethod ({ cls := "java/util/BitSet", name := "ensureCapacity", desc := "(I)V" } : Jvm.MethodName)) ∈ lw_tbl := lw_at lw_m5 62 rfl
theorem q1138 : (Jvm.Cond.instanceMethod ({ cls := "java/util/BitSet", name := "ensureCapacity", desc := "(I)V" } : Jvm.MethodName)) ∈ lw_all := lw_g (lw_at lw_m5 63 rfl) rfl
theorem q1139 : (Jvm.Cond.code ({ cls := "java/util/BitSet", name := "ensureCapacity", desc := "(I)V" } : Jvm.MethodName) prog_59_method_14_code (3 : Nat) (Option.none : Option Jvm.ClassFile.FieldType)) ∈ lw_all := lw_g (lw_at lw_m5 64 rfl) rfl
theorem q1140 : (Jvm.Cond.methodLink "java/util/BitSet" (133 : Nat) ({ cls := "java/lang/Math", name := "max", desc := "(II)I" } : Jvm.MethodName)) ∈ lw_all := lw_g (lw_at lw_m5 65 rfl) rfl
theorem q1141 : (Jvm.Cond.methodLink "java/util/BitSet" (59 : Nat) ({ cls := "java/util/Arrays", name := "copyOf", desc := "([JI)[J" } : Jvm.MethodName)) ∈ lw_all := lw_g (lw_at lw_m5 66 rfl) rfl
theorem q1149 : (Jvm.Cond.methodLink "java/util/BitSet" (199 : Nat) ({ cls := "java/lang/System", name := "arraycopy", desc := "(Ljava/lang/Object;ILjava/lang/Object;II)V" } : Jvm.MethodName)) ∈ lw_all := lw_g (lw_at lw_m5 74 rfl) rfl
theorem q1150 : (Jvm.Cond.methodLink "java/util/BitSet" (56 : Nat) ({ cls := "java/util/BitSet", name := "checkInvariants", desc := "()V" } : Jvm.MethodName)) ∈ lw_all := lw_g (lw_at lw_m5 75 rfl) rfl
theorem q1151 : (Jvm.Cond.privateMethod ({ cls := "java/util/BitSet", name := "checkInvariants", desc := "()V" } : Jvm.MethodName)) ∈ lw_tbl := lw_at lw_m5 76 rfl
theorem q1152 : (Jvm.Cond.instanceMethod ({ cls := "java/util/BitSet", name := "checkInvariants", desc := "()V" } : Jvm.MethodName)) ∈ lw_all := lw_g (lw_at lw_m5 77 rfl) rfl
theorem q1153 : (Jvm.Cond.code ({ cls := "java/util/BitSet", name := "checkInvariants", desc := "()V" } : Jvm.MethodName) prog_59_method_2_code (1 : Nat) (Option.none : Option Jvm.ClassFile.FieldType)) ∈ lw_all := lw_g (lw_at lw_m5 78 rfl) rfl
theorem q1154 : (Jvm.Cond.fieldLink "java/util/BitSet" (3 : Nat) "java/util/BitSet" "$assertionsDisabled" "Z") ∈ lw_all := lw_g (lw_at lw_m5 79 rfl) rfl
theorem q1155 : (Jvm.Cond.laysStatic "java/util/BitSet" "$assertionsDisabled" "Z") ∈ lw_tbl := lw_at lw_m5 80 rfl
theorem q1282 : (Jvm.Cond.instanceMethod ({ cls := "java/util/BitSet", name := "set", desc := "(IZ)V" } : Jvm.MethodName)) ∈ lw_all := lw_g (lw_at lw_m5 207 rfl) rfl
theorem q1283 : (Jvm.Cond.selects "java/util/BitSet" ({ cls := "java/util/BitSet", name := "set", desc := "(IZ)V" } : Jvm.MethodName) ({ cls := "java/util/BitSet", name := "set", desc := "(IZ)V" } : Jvm.MethodName)) ∈ lw_all := lw_g (lw_at lw_m5 208 rfl) rfl
theorem q1284 : (Jvm.Cond.code ({ cls := "java/util/BitSet", name := "set", desc := "(IZ)V" } : Jvm.MethodName) prog_59_method_20_code (3 : Nat) (Option.none : Option Jvm.ClassFile.FieldType)) ∈ lw_all := lw_g (lw_at lw_m5 209 rfl) rfl
theorem q1285 : (Jvm.Cond.methodLink "java/util/BitSet" (167 : Nat) ({ cls := "java/util/BitSet", name := "set", desc := "(I)V" } : Jvm.MethodName)) ∈ lw_all := lw_g (lw_at lw_m5 210 rfl) rfl
theorem q1286 : (Jvm.Cond.instanceMethod ({ cls := "java/util/BitSet", name := "set", desc := "(I)V" } : Jvm.MethodName)) ∈ lw_all := lw_g (lw_at lw_m5 211 rfl) rfl
theorem q1287 : (Jvm.Cond.selects "java/util/BitSet" ({ cls := "java/util/BitSet", name := "set", desc := "(I)V" } : Jvm.MethodName) ({ cls := "java/util/BitSet", name := "set", desc := "(I)V" } : Jvm.MethodName)) ∈ lw_all := lw_g (lw_at lw_m5 212 rfl) rfl
theorem q1288 : (Jvm.Cond.code ({ cls := "java/util/BitSet", name := "set", desc := "(I)V" } : Jvm.MethodName) prog_59_method_19_code (3 : Nat) (Option.none : Option Jvm.ClassFile.FieldType)) ∈ lw_all := lw_g (lw_at lw_m5 213 rfl) rfl
theorem q1289 : (Jvm.Cond.methodLink "java/util/BitSet" (155 : Nat) ({ cls := "java/util/BitSet", name := "expandTo", desc := "(I)V" } : Jvm.MethodName)) ∈ lw_all := lw_g (lw_at lw_m5 214 rfl) rfl
theorem q1290 : (Jvm.Cond.privateMethod ({ cls := "java/util/BitSet", name := "expandTo", desc := "(I)V" } : Jvm.MethodName)) ∈ lw_tbl := lw_at lw_m5 215 rfl
theorem q1291 : (Jvm.Cond.instanceMethod ({ cls := "java/util/BitSet", name := "expandTo", desc := "(I)V" } : Jvm.MethodName)) ∈ lw_all := lw_g (lw_at lw_m5 216 rfl) rfl
theorem q1292 : (Jvm.Cond.code ({ cls := "java/util/BitSet", name := "expandTo", desc := "(I)V" } : Jvm.MethodName) prog_59_method_15_code (3 : Nat) (Option.none : Option Jvm.ClassFile.FieldType)) ∈ lw_all := lw_g (lw_at lw_m5 217 rfl) rfl
theorem q1293 : (Jvm.Cond.methodLink "java/util/BitSet" (170 : Nat) ({ cls := "java/util/BitSet", name := "clear", desc := "(I)V" } : Jvm.MethodName)) ∈ lw_all := lw_g (lw_at lw_m5 218 rfl) rfl
theorem q1294 : (Jvm.Cond.instanceMethod ({ cls := "java/util/BitSet", name := "clear", desc := "(I)V" } : Jvm.MethodName)) ∈ lw_all := lw_g (lw_at lw_m5 219 rfl) rfl
theorem q1295 : (Jvm.Cond.selects "java/util/BitSet" ({ cls := "java/util/BitSet", name := "clear", desc := "(I)V" } : Jvm.MethodName) ({ cls := "java/util/BitSet", name := "clear", desc := "(I)V" } : Jvm.MethodName)) ∈ lw_all := lw_g (lw_at lw_m5 220 rfl) rfl
theorem q1296 : (Jvm.Cond.code ({ cls := "java/util/BitSet", name := "clear", desc := "(I)V" } : Jvm.MethodName) prog_59_method_23_code (3 : Nat) (Option.none : Option Jvm.ClassFile.FieldType)) ∈ lw_all := lw_g (lw_at lw_m5 221 rfl) rfl
theorem q1297 : (Jvm.Cond.constantLong "java/util/BitSet" (165 : Nat) (-1 : Int64)) ∈ lw_all := lw_g (lw_at lw_m5 222 rfl) rfl
theorem q1298 : (Jvm.Cond.methodLink "java/util/BitSet" (158 : Nat) ({ cls := "java/util/BitSet", name := "recalculateWordsInUse", desc := "()V" } : Jvm.MethodName)) ∈ lw_all := lw_g (lw_at lw_m5 223 rfl) rfl
theorem q1299 : (Jvm.Cond.privateMethod ({ cls := "java/util/BitSet", name := "recalculateWordsInUse", desc := "()V" } : Jvm.MethodName)) ∈ lw_tbl := lw_at lw_m5 224 rfl
theorem q1300 : (Jvm.Cond.instanceMethod ({ cls := "java/util/BitSet", name := "recalculateWordsInUse", desc := "()V" } : Jvm.MethodName)) ∈ lw_all := lw_g (lw_at lw_m5 225 rfl) rfl
theorem q1301 : (Jvm.Cond.code ({ cls := "java/util/BitSet", name := "recalculateWordsInUse", desc := "()V" } : Jvm.MethodName) prog_59_method_3_code (2 : Nat) (Option.none : Option Jvm.ClassFile.FieldType)) ∈ lw_all := lw_g (lw_at lw_m5 226 rfl) rfl
theorem q1383 : (Jvm.Cond.instanceMethod ({ cls := "java/util/BitSet", name := "<init>", desc := "()V" } : Jvm.MethodName)) ∈ lw_all := lw_g (lw_at lw_m6 68 rfl) rfl
theorem q1384 : (Jvm.Cond.code ({ cls := "java/util/BitSet", name := "<init>", desc := "()V" } : Jvm.MethodName) prog_59_method_4_code (1 : Nat) (Option.none : Option Jvm.ClassFile.FieldType)) ∈ lw_all := lw_g (lw_at lw_m6 69 rfl) rfl
theorem q1599 : (Jvm.Cond.instanceMethod ({ cls := "java/util/BitSet", name := "get", desc := "(I)Z" } : Jvm.MethodName)) ∈ lw_all := lw_g (lw_at lw_m7 44 rfl) rfl
theorem q1600 : (Jvm.Cond.selects "java/util/BitSet" ({ cls := "java/util/BitSet", name := "get", desc := "(I)Z" } : Jvm.MethodName) ({ cls := "java/util/BitSet", name := "get", desc := "(I)Z" } : Jvm.MethodName)) ∈ lw_all := lw_g (lw_at lw_m7 45 rfl) rfl
theorem q1601 : (Jvm.Cond.code ({ cls := "java/util/BitSet", name := "get", desc := "(I)Z" } : Jvm.MethodName) prog_59_method_26_code (3 : Nat) (Option.some Jvm.ClassFile.FieldType.boolean)) ∈ lw_all := lw_g (lw_at lw_m7 46 rfl) rfl
theorem q1845 : (Jvm.Cond.instanceMethod ({ cls := "java/util/BitSet", name := "nextSetBit", desc := "(I)I" } : Jvm.MethodName)) ∈ lw_all := lw_g (lw_at lw_m8 50 rfl) rfl
theorem q1846 : (Jvm.Cond.selects "java/util/BitSet" ({ cls := "java/util/BitSet", name := "nextSetBit", desc := "(I)I" } : Jvm.MethodName) ({ cls := "java/util/BitSet", name := "nextSetBit", desc := "(I)I" } : Jvm.MethodName)) ∈ lw_all := lw_g (lw_at lw_m8 51 rfl) rfl
theorem q1847 : (Jvm.Cond.code ({ cls := "java/util/BitSet", name := "nextSetBit", desc := "(I)I" } : Jvm.MethodName) prog_59_method_28_code (5 : Nat) (Option.some Jvm.ClassFile.FieldType.int)) ∈ lw_all := lw_g (lw_at lw_m8 52 rfl) rfl
theorem q1848 : (Jvm.Cond.methodLink "java/util/BitSet" (182 : Nat) ({ cls := "java/lang/Long", name := "numberOfTrailingZeros", desc := "(J)I" } : Jvm.MethodName)) ∈ lw_all := lw_g (lw_at lw_m8 53 rfl) rfl
theorem q1856 : (Jvm.Cond.instanceMethod ({ cls := "java/util/BitSet", name := "nextClearBit", desc := "(I)I" } : Jvm.MethodName)) ∈ lw_all := lw_g (lw_at lw_m8 61 rfl) rfl
theorem q1857 : (Jvm.Cond.selects "java/util/BitSet" ({ cls := "java/util/BitSet", name := "nextClearBit", desc := "(I)I" } : Jvm.MethodName) ({ cls := "java/util/BitSet", name := "nextClearBit", desc := "(I)I" } : Jvm.MethodName)) ∈ lw_all := lw_g (lw_at lw_m8 62 rfl) rfl
theorem q1858 : (Jvm.Cond.code ({ cls := "java/util/BitSet", name := "nextClearBit", desc := "(I)I" } : Jvm.MethodName) prog_59_method_29_code (5 : Nat) (Option.some Jvm.ClassFile.FieldType.int)) ∈ lw_all := lw_g (lw_at lw_m8 63 rfl) rfl
theorem q2974 : (Jvm.Cond.castable "java/util/BitSet" "java/lang/Object") ∈ lw_tbl := lw_at lw_m12 219 rfl

/-! java/lang/Enum -/
set_option maxRecDepth 100000
def RJ18 : String := "java/lang/Enum"
abbrev cJ18_ordinal : ByteArray := prog_29_method_2_code
def yJ18_ordinal : MethodName := ⟨RJ18, "ordinal", "()I"⟩
theorem dJ18_ordinal_0 : decode cJ18_ordinal 0 = .ok (.aload_n 0, 1) := by decide +kernel
theorem dJ18_ordinal_1 : decode cJ18_ordinal 1 = .ok (.getfield 7, 3) := by decide +kernel
theorem dJ18_ordinal_4 : decode cJ18_ordinal 4 = .ok (.ireturn, 1) := by decide +kernel
theorem q138 : (Jvm.Cond.initialized "java/lang/Enum") ∈ lw_all := lw_g (lw_at lw_m1 23 rfl) rfl
theorem q1181 : (Jvm.Cond.declares ({ cls := "java/lang/Enum", name := "ordinal", desc := "()I" } : Jvm.MethodName)) ∈ lw_tbl := lw_at lw_m5 106 rfl
theorem q1183 : (Jvm.Cond.instanceMethod ({ cls := "java/lang/Enum", name := "ordinal", desc := "()I" } : Jvm.MethodName)) ∈ lw_all := lw_g (lw_at lw_m5 108 rfl) rfl
theorem q1184 : (Jvm.Cond.code ({ cls := "java/lang/Enum", name := "ordinal", desc := "()I" } : Jvm.MethodName) prog_29_method_2_code (1 : Nat) (Option.some Jvm.ClassFile.FieldType.int)) ∈ lw_all := lw_g (lw_at lw_m5 109 rfl) rfl
theorem q3017 : (Jvm.Cond.fieldLink "java/lang/Enum" (7 : Nat) "java/lang/Enum" "ordinal" "I") ∈ lw_all := lw_g (lw_at lw_m13 22 rfl) rfl

abbrev cX1_init : ByteArray := prog_1_method_1_code
def yX1_init : MethodName := ⟨RX1, "<init>", "()V"⟩
def dkwX1_init_14 : List UInt8 := [186, 0, 113, 0, 0, 183, 0, 104, 182, 0, 90, 87, 42, 180, 0, 30, 42, 180, 0, 10, 182, 0, 114, 177]
abbrev dktX1_init_14 : List UInt8 := dkwX1_init_14 ++ []
def dkwX1_init_13 : List UInt8 := [186, 0, 112, 0, 0, 183, 0, 104, 182, 0, 90, 87, 42, 180, 0, 46, 187, 0, 98, 89]
abbrev dktX1_init_13 : List UInt8 := dkwX1_init_13 ++ dktX1_init_14
def dkwX1_init_12 : List UInt8 := [186, 0, 111, 0, 0, 183, 0, 104, 182, 0, 90, 87, 42, 180, 0, 46, 187, 0, 98, 89]
abbrev dktX1_init_12 : List UInt8 := dkwX1_init_12 ++ dktX1_init_13
def dkwX1_init_11 : List UInt8 := [187, 0, 98, 89, 186, 0, 110, 0, 0, 183, 0, 104, 182, 0, 90, 87, 42, 180, 0, 46, 187, 0, 98, 89]
abbrev dktX1_init_11 : List UInt8 := dkwX1_init_11 ++ dktX1_init_12
def dkwX1_init_10 : List UInt8 := [180, 0, 46, 187, 0, 98, 89, 186, 0, 107, 0, 0, 183, 0, 104, 182, 0, 90, 87, 42, 180, 0, 46]
abbrev dktX1_init_10 : List UInt8 := dkwX1_init_10 ++ dktX1_init_11
def dkwX1_init_9 : List UInt8 := [87, 42, 180, 0, 46, 187, 0, 98, 89, 42, 186, 0, 100, 0, 0, 183, 0, 104, 182, 0, 90, 87, 42]
abbrev dktX1_init_9 : List UInt8 := dkwX1_init_9 ++ dktX1_init_10
def dkwX1_init_8 : List UInt8 := [182, 0, 90, 87, 42, 180, 0, 42, 187, 0, 81, 89, 42, 186, 0, 95, 0, 0, 183, 0, 87, 182, 0, 90]
abbrev dktX1_init_8 : List UInt8 := dkwX1_init_8 ++ dktX1_init_9
def dkwX1_init_7 : List UInt8 := [183, 0, 87, 182, 0, 90, 87, 42, 180, 0, 42, 187, 0, 81, 89, 186, 0, 94, 0, 0, 183, 0, 87]
abbrev dktX1_init_7 : List UInt8 := dkwX1_init_7 ++ dktX1_init_8
def dkwX1_init_6 : List UInt8 := [42, 17, 39, 16, 188, 10, 181, 0, 78, 42, 180, 0, 42, 187, 0, 81, 89, 186, 0, 83, 0, 0]
abbrev dktX1_init_6 : List UInt8 := dkwX1_init_6 ++ dktX1_init_7
def dkwX1_init_5 : List UInt8 := [183, 0, 59, 181, 0, 64, 42, 187, 0, 67, 89, 183, 0, 69, 181, 0, 70, 42, 8, 188, 10, 181, 0, 74]
abbrev dktX1_init_5 : List UInt8 := dkwX1_init_5 ++ dktX1_init_6
def dkwX1_init_4 : List UInt8 := [181, 0, 49, 42, 2, 181, 0, 53, 42, 187, 0, 57, 89, 183, 0, 59, 181, 0, 60, 42, 187, 0, 57, 89]
abbrev dktX1_init_4 : List UInt8 := dkwX1_init_4 ++ dktX1_init_5
def dkwX1_init_3 : List UInt8 := [181, 0, 42, 42, 187, 0, 37, 89, 16, 6, 183, 0, 39, 181, 0, 46, 42, 17, 2, 188, 188, 8]
abbrev dktX1_init_3 : List UInt8 := dkwX1_init_3 ++ dktX1_init_4
def dkwX1_init_2 : List UInt8 := [181, 0, 30, 42, 187, 0, 31, 89, 183, 0, 33, 181, 0, 34, 42, 187, 0, 37, 89, 6, 183, 0, 39]
abbrev dktX1_init_2 : List UInt8 := dkwX1_init_2 ++ dktX1_init_3
def dkwX1_init_1 : List UInt8 := [181, 0, 19, 42, 187, 0, 16, 89, 183, 0, 18, 181, 0, 23, 42, 42, 180, 0, 19, 180, 0, 26]
abbrev dktX1_init_1 : List UInt8 := dkwX1_init_1 ++ dktX1_init_2
def dkwX1_init_0 : List UInt8 := [42, 183, 0, 1, 42, 187, 0, 7, 89, 183, 0, 9, 181, 0, 10, 42, 187, 0, 16, 89, 183, 0, 18]
abbrev dktX1_init_0 : List UInt8 := dkwX1_init_0 ++ dktX1_init_1
theorem dksX1_init_0 : cX1_init.data.toList.drop 0 = dktX1_init_0 := by decide +kernel
theorem dksX1_init_1 : cX1_init.data.toList.drop 23 = dktX1_init_1 := dk_seg dksX1_init_0 23 rfl rfl
theorem dksX1_init_2 : cX1_init.data.toList.drop 45 = dktX1_init_2 := dk_seg dksX1_init_1 22 rfl rfl
theorem dksX1_init_3 : cX1_init.data.toList.drop 68 = dktX1_init_3 := dk_seg dksX1_init_2 23 rfl rfl
theorem dksX1_init_4 : cX1_init.data.toList.drop 90 = dktX1_init_4 := dk_seg dksX1_init_3 22 rfl rfl
theorem dksX1_init_5 : cX1_init.data.toList.drop 114 = dktX1_init_5 := dk_seg dksX1_init_4 24 rfl rfl
theorem dksX1_init_6 : cX1_init.data.toList.drop 138 = dktX1_init_6 := dk_seg dksX1_init_5 24 rfl rfl
theorem dksX1_init_7 : cX1_init.data.toList.drop 160 = dktX1_init_7 := dk_seg dksX1_init_6 22 rfl rfl
theorem dksX1_init_8 : cX1_init.data.toList.drop 183 = dktX1_init_8 := dk_seg dksX1_init_7 23 rfl rfl
theorem dksX1_init_9 : cX1_init.data.toList.drop 207 = dktX1_init_9 := dk_seg dksX1_init_8 24 rfl rfl
theorem dksX1_init_10 : cX1_init.data.toList.drop 230 = dktX1_init_10 := dk_seg dksX1_init_9 23 rfl rfl
theorem dksX1_init_11 : cX1_init.data.toList.drop 253 = dktX1_init_11 := dk_seg dksX1_init_10 23 rfl rfl
theorem dksX1_init_12 : cX1_init.data.toList.drop 277 = dktX1_init_12 := dk_seg dksX1_init_11 24 rfl rfl
theorem dksX1_init_13 : cX1_init.data.toList.drop 297 = dktX1_init_13 := dk_seg dksX1_init_12 20 rfl rfl
theorem dksX1_init_14 : cX1_init.data.toList.drop 317 = dktX1_init_14 := dk_seg dksX1_init_13 20 rfl rfl
theorem dX1_init_0 : decode cX1_init 0 = .ok (.aload_n 0, 1) := dk_42 (dk_at dksX1_init_0 0 rfl rfl)
theorem dX1_init_1 : decode cX1_init 1 = .ok (.invokespecial 1, 3) := dk_183 0 1 (dk_at dksX1_init_0 1 rfl rfl)
theorem dX1_init_4 : decode cX1_init 4 = .ok (.aload_n 0, 1) := dk_42 (dk_at dksX1_init_0 4 rfl rfl)
theorem dX1_init_5 : decode cX1_init 5 = .ok (.new 7, 3) := dk_187 0 7 (dk_at dksX1_init_0 5 rfl rfl)
theorem dX1_init_8 : decode cX1_init 8 = .ok (.dup, 1) := dk_89 (dk_at dksX1_init_0 8 rfl rfl)
theorem dX1_init_9 : decode cX1_init 9 = .ok (.invokespecial 9, 3) := dk_183 0 9 (dk_at dksX1_init_0 9 rfl rfl)
theorem dX1_init_12 : decode cX1_init 12 = .ok (.putfield 10, 3) := dk_181 0 10 (dk_at dksX1_init_0 12 rfl rfl)
theorem dX1_init_15 : decode cX1_init 15 = .ok (.aload_n 0, 1) := dk_42 (dk_at dksX1_init_0 15 rfl rfl)
theorem dX1_init_16 : decode cX1_init 16 = .ok (.new 16, 3) := dk_187 0 16 (dk_at dksX1_init_0 16 rfl rfl)
theorem dX1_init_19 : decode cX1_init 19 = .ok (.dup, 1) := dk_89 (dk_at dksX1_init_0 19 rfl rfl)
theorem dX1_init_20 : decode cX1_init 20 = .ok (.invokespecial 18, 3) := dk_183 0 18 (dk_at dksX1_init_0 20 rfl rfl)
theorem dX1_init_23 : decode cX1_init 23 = .ok (.putfield 19, 3) := dk_181 0 19 (dk_at dksX1_init_1 0 rfl rfl)
theorem dX1_init_26 : decode cX1_init 26 = .ok (.aload_n 0, 1) := dk_42 (dk_at dksX1_init_1 3 rfl rfl)
theorem dX1_init_27 : decode cX1_init 27 = .ok (.new 16, 3) := dk_187 0 16 (dk_at dksX1_init_1 4 rfl rfl)
theorem dX1_init_30 : decode cX1_init 30 = .ok (.dup, 1) := dk_89 (dk_at dksX1_init_1 7 rfl rfl)
theorem dX1_init_31 : decode cX1_init 31 = .ok (.invokespecial 18, 3) := dk_183 0 18 (dk_at dksX1_init_1 8 rfl rfl)
theorem dX1_init_34 : decode cX1_init 34 = .ok (.putfield 23, 3) := dk_181 0 23 (dk_at dksX1_init_1 11 rfl rfl)
theorem dX1_init_37 : decode cX1_init 37 = .ok (.aload_n 0, 1) := dk_42 (dk_at dksX1_init_1 14 rfl rfl)
theorem dX1_init_38 : decode cX1_init 38 = .ok (.aload_n 0, 1) := dk_42 (dk_at dksX1_init_1 15 rfl rfl)
theorem dX1_init_39 : decode cX1_init 39 = .ok (.getfield 19, 3) := dk_180 0 19 (dk_at dksX1_init_1 16 rfl rfl)
theorem dX1_init_42 : decode cX1_init 42 = .ok (.getfield 26, 3) := dk_180 0 26 (dk_at dksX1_init_1 19 rfl rfl)
theorem dX1_init_45 : decode cX1_init 45 = .ok (.putfield 30, 3) := dk_181 0 30 (dk_at dksX1_init_2 0 rfl rfl)
theorem dX1_init_48 : decode cX1_init 48 = .ok (.aload_n 0, 1) := dk_42 (dk_at dksX1_init_2 3 rfl rfl)
theorem dX1_init_49 : decode cX1_init 49 = .ok (.new 31, 3) := dk_187 0 31 (dk_at dksX1_init_2 4 rfl rfl)
theorem dX1_init_52 : decode cX1_init 52 = .ok (.dup, 1) := dk_89 (dk_at dksX1_init_2 7 rfl rfl)
theorem dX1_init_53 : decode cX1_init 53 = .ok (.invokespecial 33, 3) := dk_183 0 33 (dk_at dksX1_init_2 8 rfl rfl)
theorem dX1_init_56 : decode cX1_init 56 = .ok (.putfield 34, 3) := dk_181 0 34 (dk_at dksX1_init_2 11 rfl rfl)
theorem dX1_init_59 : decode cX1_init 59 = .ok (.aload_n 0, 1) := dk_42 (dk_at dksX1_init_2 14 rfl rfl)
theorem dX1_init_60 : decode cX1_init 60 = .ok (.new 37, 3) := dk_187 0 37 (dk_at dksX1_init_2 15 rfl rfl)
theorem dX1_init_63 : decode cX1_init 63 = .ok (.dup, 1) := dk_89 (dk_at dksX1_init_2 18 rfl rfl)
theorem dX1_init_64 : decode cX1_init 64 = .ok (.iconst 3, 1) := dk_6 (dk_at dksX1_init_2 19 rfl rfl)
theorem dX1_init_65 : decode cX1_init 65 = .ok (.invokespecial 39, 3) := dk_183 0 39 (dk_at dksX1_init_2 20 rfl rfl)
theorem dX1_init_68 : decode cX1_init 68 = .ok (.putfield 42, 3) := dk_181 0 42 (dk_at dksX1_init_3 0 rfl rfl)
theorem dX1_init_71 : decode cX1_init 71 = .ok (.aload_n 0, 1) := dk_42 (dk_at dksX1_init_3 3 rfl rfl)
theorem dX1_init_72 : decode cX1_init 72 = .ok (.new 37, 3) := dk_187 0 37 (dk_at dksX1_init_3 4 rfl rfl)
theorem dX1_init_75 : decode cX1_init 75 = .ok (.dup, 1) := dk_89 (dk_at dksX1_init_3 7 rfl rfl)
theorem dX1_init_76 : decode cX1_init 76 = .ok (.bipush 6, 2) := dk_16 6 (dk_at dksX1_init_3 8 rfl rfl)
theorem dX1_init_78 : decode cX1_init 78 = .ok (.invokespecial 39, 3) := dk_183 0 39 (dk_at dksX1_init_3 10 rfl rfl)
theorem dX1_init_81 : decode cX1_init 81 = .ok (.putfield 46, 3) := dk_181 0 46 (dk_at dksX1_init_3 13 rfl rfl)
theorem dX1_init_84 : decode cX1_init 84 = .ok (.aload_n 0, 1) := dk_42 (dk_at dksX1_init_3 16 rfl rfl)
theorem dX1_init_85 : decode cX1_init 85 = .ok (.sipush 700, 3) := dk_17 2 188 (dk_at dksX1_init_3 17 rfl rfl)
theorem dX1_init_88 : decode cX1_init 88 = .ok (.newarray .byte, 2) := dk_188_8 (dk_at dksX1_init_3 20 rfl rfl)
theorem dX1_init_90 : decode cX1_init 90 = .ok (.putfield 49, 3) := dk_181 0 49 (dk_at dksX1_init_4 0 rfl rfl)
theorem dX1_init_93 : decode cX1_init 93 = .ok (.aload_n 0, 1) := dk_42 (dk_at dksX1_init_4 3 rfl rfl)
theorem dX1_init_94 : decode cX1_init 94 = .ok (.iconst (-1), 1) := dk_2 (dk_at dksX1_init_4 4 rfl rfl)
theorem dX1_init_95 : decode cX1_init 95 = .ok (.putfield 53, 3) := dk_181 0 53 (dk_at dksX1_init_4 5 rfl rfl)
theorem dX1_init_98 : decode cX1_init 98 = .ok (.aload_n 0, 1) := dk_42 (dk_at dksX1_init_4 8 rfl rfl)
theorem dX1_init_99 : decode cX1_init 99 = .ok (.new 57, 3) := dk_187 0 57 (dk_at dksX1_init_4 9 rfl rfl)
theorem dX1_init_102 : decode cX1_init 102 = .ok (.dup, 1) := dk_89 (dk_at dksX1_init_4 12 rfl rfl)
theorem dX1_init_103 : decode cX1_init 103 = .ok (.invokespecial 59, 3) := dk_183 0 59 (dk_at dksX1_init_4 13 rfl rfl)
theorem dX1_init_106 : decode cX1_init 106 = .ok (.putfield 60, 3) := dk_181 0 60 (dk_at dksX1_init_4 16 rfl rfl)
theorem dX1_init_109 : decode cX1_init 109 = .ok (.aload_n 0, 1) := dk_42 (dk_at dksX1_init_4 19 rfl rfl)
theorem dX1_init_110 : decode cX1_init 110 = .ok (.new 57, 3) := dk_187 0 57 (dk_at dksX1_init_4 20 rfl rfl)
theorem dX1_init_113 : decode cX1_init 113 = .ok (.dup, 1) := dk_89 (dk_at dksX1_init_4 23 rfl rfl)
theorem dX1_init_114 : decode cX1_init 114 = .ok (.invokespecial 59, 3) := dk_183 0 59 (dk_at dksX1_init_5 0 rfl rfl)
theorem dX1_init_117 : decode cX1_init 117 = .ok (.putfield 64, 3) := dk_181 0 64 (dk_at dksX1_init_5 3 rfl rfl)
theorem dX1_init_120 : decode cX1_init 120 = .ok (.aload_n 0, 1) := dk_42 (dk_at dksX1_init_5 6 rfl rfl)
theorem dX1_init_121 : decode cX1_init 121 = .ok (.new 67, 3) := dk_187 0 67 (dk_at dksX1_init_5 7 rfl rfl)
theorem dX1_init_124 : decode cX1_init 124 = .ok (.dup, 1) := dk_89 (dk_at dksX1_init_5 10 rfl rfl)
theorem dX1_init_125 : decode cX1_init 125 = .ok (.invokespecial 69, 3) := dk_183 0 69 (dk_at dksX1_init_5 11 rfl rfl)
theorem dX1_init_128 : decode cX1_init 128 = .ok (.putfield 70, 3) := dk_181 0 70 (dk_at dksX1_init_5 14 rfl rfl)
theorem dX1_init_131 : decode cX1_init 131 = .ok (.aload_n 0, 1) := dk_42 (dk_at dksX1_init_5 17 rfl rfl)
theorem dX1_init_132 : decode cX1_init 132 = .ok (.iconst 5, 1) := dk_8 (dk_at dksX1_init_5 18 rfl rfl)
theorem dX1_init_133 : decode cX1_init 133 = .ok (.newarray .int, 2) := dk_188_10 (dk_at dksX1_init_5 19 rfl rfl)
theorem dX1_init_135 : decode cX1_init 135 = .ok (.putfield 74, 3) := dk_181 0 74 (dk_at dksX1_init_5 21 rfl rfl)
theorem dX1_init_138 : decode cX1_init 138 = .ok (.aload_n 0, 1) := dk_42 (dk_at dksX1_init_6 0 rfl rfl)
theorem dX1_init_139 : decode cX1_init 139 = .ok (.sipush 10000, 3) := dk_17 39 16 (dk_at dksX1_init_6 1 rfl rfl)
theorem dX1_init_142 : decode cX1_init 142 = .ok (.newarray .int, 2) := dk_188_10 (dk_at dksX1_init_6 4 rfl rfl)
theorem dX1_init_144 : decode cX1_init 144 = .ok (.putfield 78, 3) := dk_181 0 78 (dk_at dksX1_init_6 6 rfl rfl)
theorem dX1_init_147 : decode cX1_init 147 = .ok (.aload_n 0, 1) := dk_42 (dk_at dksX1_init_6 9 rfl rfl)
theorem dX1_init_148 : decode cX1_init 148 = .ok (.getfield 42, 3) := dk_180 0 42 (dk_at dksX1_init_6 10 rfl rfl)
theorem dX1_init_151 : decode cX1_init 151 = .ok (.new 81, 3) := dk_187 0 81 (dk_at dksX1_init_6 13 rfl rfl)
theorem dX1_init_154 : decode cX1_init 154 = .ok (.dup, 1) := dk_89 (dk_at dksX1_init_6 16 rfl rfl)
theorem dX1_init_155 : decode cX1_init 155 = .ok (.invokedynamic 83, 5) := by decide +kernel
theorem dX1_init_160 : decode cX1_init 160 = .ok (.invokespecial 87, 3) := dk_183 0 87 (dk_at dksX1_init_7 0 rfl rfl)
theorem dX1_init_163 : decode cX1_init 163 = .ok (.invokevirtual 90, 3) := dk_182 0 90 (dk_at dksX1_init_7 3 rfl rfl)
theorem dX1_init_166 : decode cX1_init 166 = .ok (.pop, 1) := dk_87 (dk_at dksX1_init_7 6 rfl rfl)
theorem dX1_init_167 : decode cX1_init 167 = .ok (.aload_n 0, 1) := dk_42 (dk_at dksX1_init_7 7 rfl rfl)
theorem dX1_init_168 : decode cX1_init 168 = .ok (.getfield 42, 3) := dk_180 0 42 (dk_at dksX1_init_7 8 rfl rfl)
theorem dX1_init_171 : decode cX1_init 171 = .ok (.new 81, 3) := dk_187 0 81 (dk_at dksX1_init_7 11 rfl rfl)
theorem dX1_init_174 : decode cX1_init 174 = .ok (.dup, 1) := dk_89 (dk_at dksX1_init_7 14 rfl rfl)
theorem dX1_init_175 : decode cX1_init 175 = .ok (.invokedynamic 94, 5) := by decide +kernel
theorem dX1_init_180 : decode cX1_init 180 = .ok (.invokespecial 87, 3) := dk_183 0 87 (dk_at dksX1_init_7 20 rfl rfl)
theorem dX1_init_183 : decode cX1_init 183 = .ok (.invokevirtual 90, 3) := dk_182 0 90 (dk_at dksX1_init_8 0 rfl rfl)
theorem dX1_init_186 : decode cX1_init 186 = .ok (.pop, 1) := dk_87 (dk_at dksX1_init_8 3 rfl rfl)
theorem dX1_init_187 : decode cX1_init 187 = .ok (.aload_n 0, 1) := dk_42 (dk_at dksX1_init_8 4 rfl rfl)
theorem dX1_init_188 : decode cX1_init 188 = .ok (.getfield 42, 3) := dk_180 0 42 (dk_at dksX1_init_8 5 rfl rfl)
theorem dX1_init_191 : decode cX1_init 191 = .ok (.new 81, 3) := dk_187 0 81 (dk_at dksX1_init_8 8 rfl rfl)
theorem dX1_init_194 : decode cX1_init 194 = .ok (.dup, 1) := dk_89 (dk_at dksX1_init_8 11 rfl rfl)
theorem dX1_init_195 : decode cX1_init 195 = .ok (.aload_n 0, 1) := dk_42 (dk_at dksX1_init_8 12 rfl rfl)
theorem dX1_init_196 : decode cX1_init 196 = .ok (.invokedynamic 95, 5) := by decide +kernel
theorem dX1_init_201 : decode cX1_init 201 = .ok (.invokespecial 87, 3) := dk_183 0 87 (dk_at dksX1_init_8 18 rfl rfl)
theorem dX1_init_204 : decode cX1_init 204 = .ok (.invokevirtual 90, 3) := dk_182 0 90 (dk_at dksX1_init_8 21 rfl rfl)
theorem dX1_init_207 : decode cX1_init 207 = .ok (.pop, 1) := dk_87 (dk_at dksX1_init_9 0 rfl rfl)
theorem dX1_init_208 : decode cX1_init 208 = .ok (.aload_n 0, 1) := dk_42 (dk_at dksX1_init_9 1 rfl rfl)
theorem dX1_init_209 : decode cX1_init 209 = .ok (.getfield 46, 3) := dk_180 0 46 (dk_at dksX1_init_9 2 rfl rfl)
theorem dX1_init_212 : decode cX1_init 212 = .ok (.new 98, 3) := dk_187 0 98 (dk_at dksX1_init_9 5 rfl rfl)
theorem dX1_init_215 : decode cX1_init 215 = .ok (.dup, 1) := dk_89 (dk_at dksX1_init_9 8 rfl rfl)
theorem dX1_init_216 : decode cX1_init 216 = .ok (.aload_n 0, 1) := dk_42 (dk_at dksX1_init_9 9 rfl rfl)
theorem dX1_init_217 : decode cX1_init 217 = .ok (.invokedynamic 100, 5) := by decide +kernel
theorem dX1_init_222 : decode cX1_init 222 = .ok (.invokespecial 104, 3) := dk_183 0 104 (dk_at dksX1_init_9 15 rfl rfl)
theorem dX1_init_225 : decode cX1_init 225 = .ok (.invokevirtual 90, 3) := dk_182 0 90 (dk_at dksX1_init_9 18 rfl rfl)
theorem dX1_init_228 : decode cX1_init 228 = .ok (.pop, 1) := dk_87 (dk_at dksX1_init_9 21 rfl rfl)
theorem dX1_init_229 : decode cX1_init 229 = .ok (.aload_n 0, 1) := dk_42 (dk_at dksX1_init_9 22 rfl rfl)
theorem dX1_init_230 : decode cX1_init 230 = .ok (.getfield 46, 3) := dk_180 0 46 (dk_at dksX1_init_10 0 rfl rfl)
theorem dX1_init_233 : decode cX1_init 233 = .ok (.new 98, 3) := dk_187 0 98 (dk_at dksX1_init_10 3 rfl rfl)
theorem dX1_init_236 : decode cX1_init 236 = .ok (.dup, 1) := dk_89 (dk_at dksX1_init_10 6 rfl rfl)
theorem dX1_init_237 : decode cX1_init 237 = .ok (.invokedynamic 107, 5) := by decide +kernel
theorem dX1_init_242 : decode cX1_init 242 = .ok (.invokespecial 104, 3) := dk_183 0 104 (dk_at dksX1_init_10 12 rfl rfl)
theorem dX1_init_245 : decode cX1_init 245 = .ok (.invokevirtual 90, 3) := dk_182 0 90 (dk_at dksX1_init_10 15 rfl rfl)
theorem dX1_init_248 : decode cX1_init 248 = .ok (.pop, 1) := dk_87 (dk_at dksX1_init_10 18 rfl rfl)
theorem dX1_init_249 : decode cX1_init 249 = .ok (.aload_n 0, 1) := dk_42 (dk_at dksX1_init_10 19 rfl rfl)
theorem dX1_init_250 : decode cX1_init 250 = .ok (.getfield 46, 3) := dk_180 0 46 (dk_at dksX1_init_10 20 rfl rfl)
theorem dX1_init_253 : decode cX1_init 253 = .ok (.new 98, 3) := dk_187 0 98 (dk_at dksX1_init_11 0 rfl rfl)
theorem dX1_init_256 : decode cX1_init 256 = .ok (.dup, 1) := dk_89 (dk_at dksX1_init_11 3 rfl rfl)
theorem dX1_init_257 : decode cX1_init 257 = .ok (.invokedynamic 110, 5) := by decide +kernel
theorem dX1_init_262 : decode cX1_init 262 = .ok (.invokespecial 104, 3) := dk_183 0 104 (dk_at dksX1_init_11 9 rfl rfl)
theorem dX1_init_265 : decode cX1_init 265 = .ok (.invokevirtual 90, 3) := dk_182 0 90 (dk_at dksX1_init_11 12 rfl rfl)
theorem dX1_init_268 : decode cX1_init 268 = .ok (.pop, 1) := dk_87 (dk_at dksX1_init_11 15 rfl rfl)
theorem dX1_init_269 : decode cX1_init 269 = .ok (.aload_n 0, 1) := dk_42 (dk_at dksX1_init_11 16 rfl rfl)
theorem dX1_init_270 : decode cX1_init 270 = .ok (.getfield 46, 3) := dk_180 0 46 (dk_at dksX1_init_11 17 rfl rfl)
theorem dX1_init_273 : decode cX1_init 273 = .ok (.new 98, 3) := dk_187 0 98 (dk_at dksX1_init_11 20 rfl rfl)
theorem dX1_init_276 : decode cX1_init 276 = .ok (.dup, 1) := dk_89 (dk_at dksX1_init_11 23 rfl rfl)
theorem dX1_init_277 : decode cX1_init 277 = .ok (.invokedynamic 111, 5) := by decide +kernel
theorem dX1_init_282 : decode cX1_init 282 = .ok (.invokespecial 104, 3) := dk_183 0 104 (dk_at dksX1_init_12 5 rfl rfl)
theorem dX1_init_285 : decode cX1_init 285 = .ok (.invokevirtual 90, 3) := dk_182 0 90 (dk_at dksX1_init_12 8 rfl rfl)
theorem dX1_init_288 : decode cX1_init 288 = .ok (.pop, 1) := dk_87 (dk_at dksX1_init_12 11 rfl rfl)
theorem dX1_init_289 : decode cX1_init 289 = .ok (.aload_n 0, 1) := dk_42 (dk_at dksX1_init_12 12 rfl rfl)
theorem dX1_init_290 : decode cX1_init 290 = .ok (.getfield 46, 3) := dk_180 0 46 (dk_at dksX1_init_12 13 rfl rfl)
theorem dX1_init_293 : decode cX1_init 293 = .ok (.new 98, 3) := dk_187 0 98 (dk_at dksX1_init_12 16 rfl rfl)
theorem dX1_init_296 : decode cX1_init 296 = .ok (.dup, 1) := dk_89 (dk_at dksX1_init_12 19 rfl rfl)
theorem dX1_init_297 : decode cX1_init 297 = .ok (.invokedynamic 112, 5) := by decide +kernel
theorem dX1_init_302 : decode cX1_init 302 = .ok (.invokespecial 104, 3) := dk_183 0 104 (dk_at dksX1_init_13 5 rfl rfl)
theorem dX1_init_305 : decode cX1_init 305 = .ok (.invokevirtual 90, 3) := dk_182 0 90 (dk_at dksX1_init_13 8 rfl rfl)
theorem dX1_init_308 : decode cX1_init 308 = .ok (.pop, 1) := dk_87 (dk_at dksX1_init_13 11 rfl rfl)
theorem dX1_init_309 : decode cX1_init 309 = .ok (.aload_n 0, 1) := dk_42 (dk_at dksX1_init_13 12 rfl rfl)
theorem dX1_init_310 : decode cX1_init 310 = .ok (.getfield 46, 3) := dk_180 0 46 (dk_at dksX1_init_13 13 rfl rfl)
theorem dX1_init_313 : decode cX1_init 313 = .ok (.new 98, 3) := dk_187 0 98 (dk_at dksX1_init_13 16 rfl rfl)
theorem dX1_init_316 : decode cX1_init 316 = .ok (.dup, 1) := dk_89 (dk_at dksX1_init_13 19 rfl rfl)
theorem dX1_init_317 : decode cX1_init 317 = .ok (.invokedynamic 113, 5) := by decide +kernel
theorem dX1_init_322 : decode cX1_init 322 = .ok (.invokespecial 104, 3) := dk_183 0 104 (dk_at dksX1_init_14 5 rfl rfl)
theorem dX1_init_325 : decode cX1_init 325 = .ok (.invokevirtual 90, 3) := dk_182 0 90 (dk_at dksX1_init_14 8 rfl rfl)
theorem dX1_init_328 : decode cX1_init 328 = .ok (.pop, 1) := dk_87 (dk_at dksX1_init_14 11 rfl rfl)
theorem dX1_init_329 : decode cX1_init 329 = .ok (.aload_n 0, 1) := dk_42 (dk_at dksX1_init_14 12 rfl rfl)
theorem dX1_init_330 : decode cX1_init 330 = .ok (.getfield 30, 3) := dk_180 0 30 (dk_at dksX1_init_14 13 rfl rfl)
theorem dX1_init_333 : decode cX1_init 333 = .ok (.aload_n 0, 1) := dk_42 (dk_at dksX1_init_14 16 rfl rfl)
theorem dX1_init_334 : decode cX1_init 334 = .ok (.getfield 10, 3) := dk_180 0 10 (dk_at dksX1_init_14 17 rfl rfl)
theorem dX1_init_337 : decode cX1_init 337 = .ok (.invokevirtual 114, 3) := dk_182 0 114 (dk_at dksX1_init_14 20 rfl rfl)
theorem dX1_init_340 : decode cX1_init 340 = .ok (.return_, 1) := dk_177 (dk_at dksX1_init_14 23 rfl rfl)
abbrev cX1_lambda_new_0 : ByteArray := prog_1_method_65_code
def yX1_lambda_new_0 : MethodName := ⟨RX1, "lambda$new$0", "(LCircuitCells$State;)I"⟩
def dkwX1_lambda_new_0_0 : List UInt8 := [42, 4, 182, 0, 121, 172]
abbrev dktX1_lambda_new_0_0 : List UInt8 := dkwX1_lambda_new_0_0 ++ []
theorem dksX1_lambda_new_0_0 : cX1_lambda_new_0.data.toList.drop 0 = dktX1_lambda_new_0_0 := by decide +kernel
theorem dX1_lambda_new_0_0 : decode cX1_lambda_new_0 0 = .ok (.aload_n 0, 1) := dk_42 (dk_at dksX1_lambda_new_0_0 0 rfl rfl)
theorem dX1_lambda_new_0_1 : decode cX1_lambda_new_0 1 = .ok (.iconst 1, 1) := dk_4 (dk_at dksX1_lambda_new_0_0 1 rfl rfl)
theorem dX1_lambda_new_0_2 : decode cX1_lambda_new_0 2 = .ok (.invokevirtual 121, 3) := dk_182 0 121 (dk_at dksX1_lambda_new_0_0 2 rfl rfl)
theorem dX1_lambda_new_0_5 : decode cX1_lambda_new_0 5 = .ok (.ireturn, 1) := dk_172 (dk_at dksX1_lambda_new_0_0 5 rfl rfl)
abbrev cX1_idle : ByteArray := prog_1_method_2_code
def yX1_idle : MethodName := ⟨RX1, "idle", "(LCircuitCells$State;)I"⟩
theorem dX1_idle_0 : decode cX1_idle 0 = .ok (.bipush 126, 2) := by decide +kernel
theorem dX1_idle_2 : decode cX1_idle 2 = .ok (.ireturn, 1) := by decide +kernel
abbrev cX1_framed : ByteArray := prog_1_method_3_code
def yX1_framed : MethodName := ⟨RX1, "framed", "(LCircuitCells$State;)I"⟩
def dkwX1_framed_0 : List UInt8 := [43, 42, 180, 0, 10, 180, 0, 118, 182, 0, 121, 172]
abbrev dktX1_framed_0 : List UInt8 := dkwX1_framed_0 ++ []
theorem dksX1_framed_0 : cX1_framed.data.toList.drop 0 = dktX1_framed_0 := by decide +kernel
theorem dX1_framed_0 : decode cX1_framed 0 = .ok (.aload_n 1, 1) := dk_43 (dk_at dksX1_framed_0 0 rfl rfl)
theorem dX1_framed_1 : decode cX1_framed 1 = .ok (.aload_n 0, 1) := dk_42 (dk_at dksX1_framed_0 1 rfl rfl)
theorem dX1_framed_2 : decode cX1_framed 2 = .ok (.getfield 10, 3) := dk_180 0 10 (dk_at dksX1_framed_0 2 rfl rfl)
theorem dX1_framed_5 : decode cX1_framed 5 = .ok (.getfield 118, 3) := dk_180 0 118 (dk_at dksX1_framed_0 5 rfl rfl)
theorem dX1_framed_8 : decode cX1_framed 8 = .ok (.invokevirtual 121, 3) := dk_182 0 121 (dk_at dksX1_framed_0 8 rfl rfl)
theorem dX1_framed_11 : decode cX1_framed 11 = .ok (.ireturn, 1) := dk_172 (dk_at dksX1_framed_0 11 rfl rfl)
abbrev cX1_lambda_new_1 : ByteArray := prog_1_method_64_code
def yX1_lambda_new_1 : MethodName := ⟨RX1, "lambda$new$1", "(LCircuitCells$State;)I"⟩
def dkwX1_lambda_new_1_0 : List UInt8 := [43, 42, 180, 0, 10, 182, 0, 214, 172]
abbrev dktX1_lambda_new_1_0 : List UInt8 := dkwX1_lambda_new_1_0 ++ []
theorem dksX1_lambda_new_1_0 : cX1_lambda_new_1.data.toList.drop 0 = dktX1_lambda_new_1_0 := by decide +kernel
theorem dX1_lambda_new_1_0 : decode cX1_lambda_new_1 0 = .ok (.aload_n 1, 1) := dk_43 (dk_at dksX1_lambda_new_1_0 0 rfl rfl)
theorem dX1_lambda_new_1_1 : decode cX1_lambda_new_1 1 = .ok (.aload_n 0, 1) := dk_42 (dk_at dksX1_lambda_new_1_0 1 rfl rfl)
theorem dX1_lambda_new_1_2 : decode cX1_lambda_new_1 2 = .ok (.getfield 10, 3) := dk_180 0 10 (dk_at dksX1_lambda_new_1_0 2 rfl rfl)
theorem dX1_lambda_new_1_5 : decode cX1_lambda_new_1 5 = .ok (.invokevirtual 214, 3) := dk_182 0 214 (dk_at dksX1_lambda_new_1_0 5 rfl rfl)
theorem dX1_lambda_new_1_8 : decode cX1_lambda_new_1 8 = .ok (.ireturn, 1) := dk_172 (dk_at dksX1_lambda_new_1_0 8 rfl rfl)
abbrev cX1_lambda_new_2 : ByteArray := prog_1_method_63_code
def yX1_lambda_new_2 : MethodName := ⟨RX1, "lambda$new$2", "(LCircuitCells$State;)I"⟩
theorem dX1_lambda_new_2_0 : decode cX1_lambda_new_2 0 = .ok (.aload_n 0, 1) := by decide +kernel
theorem dX1_lambda_new_2_1 : decode cX1_lambda_new_2 1 = .ok (.getfield 218, 3) := by decide +kernel
theorem dX1_lambda_new_2_4 : decode cX1_lambda_new_2 4 = .ok (.ireturn, 1) := by decide +kernel
abbrev cX1_lambda_new_3 : ByteArray := prog_1_method_62_code
def yX1_lambda_new_3 : MethodName := ⟨RX1, "lambda$new$3", "(LCircuitCells$State;)I"⟩
theorem dX1_lambda_new_3_0 : decode cX1_lambda_new_3 0 = .ok (.aload_n 0, 1) := by decide +kernel
theorem dX1_lambda_new_3_1 : decode cX1_lambda_new_3 1 = .ok (.getfield 171, 3) := by decide +kernel
theorem dX1_lambda_new_3_4 : decode cX1_lambda_new_3 4 = .ok (.ireturn, 1) := by decide +kernel
abbrev cX1_lambda_new_4 : ByteArray := prog_1_method_61_code
def yX1_lambda_new_4 : MethodName := ⟨RX1, "lambda$new$4", "(LCircuitCells$State;)I"⟩
theorem dX1_lambda_new_4_0 : decode cX1_lambda_new_4 0 = .ok (.aload_n 0, 1) := by decide +kernel
theorem dX1_lambda_new_4_1 : decode cX1_lambda_new_4 1 = .ok (.getfield 208, 3) := by decide +kernel
theorem dX1_lambda_new_4_4 : decode cX1_lambda_new_4 4 = .ok (.ireturn, 1) := by decide +kernel
abbrev cX1_lambda_new_5 : ByteArray := prog_1_method_60_code
def yX1_lambda_new_5 : MethodName := ⟨RX1, "lambda$new$5", "(LCircuitCells$State;)I"⟩
theorem dX1_lambda_new_5_0 : decode cX1_lambda_new_5 0 = .ok (.aload_n 0, 1) := by decide +kernel
theorem dX1_lambda_new_5_1 : decode cX1_lambda_new_5 1 = .ok (.getfield 211, 3) := by decide +kernel
theorem dX1_lambda_new_5_4 : decode cX1_lambda_new_5 4 = .ok (.ireturn, 1) := by decide +kernel
abbrev cX1_lambda_new_6 : ByteArray := prog_1_method_59_code
def yX1_lambda_new_6 : MethodName := ⟨RX1, "lambda$new$6", "(LCircuitCells$State;)I"⟩
theorem dX1_lambda_new_6_0 : decode cX1_lambda_new_6 0 = .ok (.aload_n 0, 1) := by decide +kernel
theorem dX1_lambda_new_6_1 : decode cX1_lambda_new_6 1 = .ok (.getfield 202, 3) := by decide +kernel
theorem dX1_lambda_new_6_4 : decode cX1_lambda_new_6 4 = .ok (.ireturn, 1) := by decide +kernel
abbrev cX1_feed : ByteArray := prog_1_method_7_code
def yX1_feed : MethodName := ⟨RX1, "feed", "(IIIII)I"⟩
def dkwX1_feed_2 : List UInt8 := [172]
abbrev dktX1_feed_2 : List UInt8 := dkwX1_feed_2 ++ []
def dkwX1_feed_1 : List UInt8 := [182, 0, 134, 42, 29, 182, 0, 134, 42, 21, 4, 182, 0, 134, 42, 21, 5, 182, 0, 134, 42, 180, 0, 131]
abbrev dktX1_feed_1 : List UInt8 := dkwX1_feed_1 ++ dktX1_feed_2
def dkwX1_feed_0 : List UInt8 := [42, 180, 0, 131, 16, 20, 96, 17, 2, 188, 164, 0, 5, 2, 172, 42, 27, 182, 0, 134, 42, 28]
abbrev dktX1_feed_0 : List UInt8 := dkwX1_feed_0 ++ dktX1_feed_1
theorem dksX1_feed_0 : cX1_feed.data.toList.drop 0 = dktX1_feed_0 := by decide +kernel
theorem dksX1_feed_1 : cX1_feed.data.toList.drop 22 = dktX1_feed_1 := dk_seg dksX1_feed_0 22 rfl rfl
theorem dksX1_feed_2 : cX1_feed.data.toList.drop 46 = dktX1_feed_2 := dk_seg dksX1_feed_1 24 rfl rfl
theorem dX1_feed_0 : decode cX1_feed 0 = .ok (.aload_n 0, 1) := dk_42 (dk_at dksX1_feed_0 0 rfl rfl)
theorem dX1_feed_1 : decode cX1_feed 1 = .ok (.getfield 131, 3) := dk_180 0 131 (dk_at dksX1_feed_0 1 rfl rfl)
theorem dX1_feed_4 : decode cX1_feed 4 = .ok (.bipush 20, 2) := dk_16 20 (dk_at dksX1_feed_0 4 rfl rfl)
theorem dX1_feed_6 : decode cX1_feed 6 = .ok (.iadd, 1) := dk_96 (dk_at dksX1_feed_0 6 rfl rfl)
theorem dX1_feed_7 : decode cX1_feed 7 = .ok (.sipush 700, 3) := dk_17 2 188 (dk_at dksX1_feed_0 7 rfl rfl)
theorem dX1_feed_10 : decode cX1_feed 10 = .ok (.if_icmp .le 5, 3) := dk_164 0 5 (dk_at dksX1_feed_0 10 rfl rfl)
theorem dX1_feed_13 : decode cX1_feed 13 = .ok (.iconst (-1), 1) := dk_2 (dk_at dksX1_feed_0 13 rfl rfl)
theorem dX1_feed_14 : decode cX1_feed 14 = .ok (.ireturn, 1) := dk_172 (dk_at dksX1_feed_0 14 rfl rfl)
theorem dX1_feed_15 : decode cX1_feed 15 = .ok (.aload_n 0, 1) := dk_42 (dk_at dksX1_feed_0 15 rfl rfl)
theorem dX1_feed_16 : decode cX1_feed 16 = .ok (.iload_n 1, 1) := dk_27 (dk_at dksX1_feed_0 16 rfl rfl)
theorem dX1_feed_17 : decode cX1_feed 17 = .ok (.invokevirtual 134, 3) := dk_182 0 134 (dk_at dksX1_feed_0 17 rfl rfl)
theorem dX1_feed_20 : decode cX1_feed 20 = .ok (.aload_n 0, 1) := dk_42 (dk_at dksX1_feed_0 20 rfl rfl)
theorem dX1_feed_21 : decode cX1_feed 21 = .ok (.iload_n 2, 1) := dk_28 (dk_at dksX1_feed_0 21 rfl rfl)
theorem dX1_feed_22 : decode cX1_feed 22 = .ok (.invokevirtual 134, 3) := dk_182 0 134 (dk_at dksX1_feed_1 0 rfl rfl)
theorem dX1_feed_25 : decode cX1_feed 25 = .ok (.aload_n 0, 1) := dk_42 (dk_at dksX1_feed_1 3 rfl rfl)
theorem dX1_feed_26 : decode cX1_feed 26 = .ok (.iload_n 3, 1) := dk_29 (dk_at dksX1_feed_1 4 rfl rfl)
theorem dX1_feed_27 : decode cX1_feed 27 = .ok (.invokevirtual 134, 3) := dk_182 0 134 (dk_at dksX1_feed_1 5 rfl rfl)
theorem dX1_feed_30 : decode cX1_feed 30 = .ok (.aload_n 0, 1) := dk_42 (dk_at dksX1_feed_1 8 rfl rfl)
theorem dX1_feed_31 : decode cX1_feed 31 = .ok (.iload 4, 2) := dk_21 4 (dk_at dksX1_feed_1 9 rfl rfl)
theorem dX1_feed_33 : decode cX1_feed 33 = .ok (.invokevirtual 134, 3) := dk_182 0 134 (dk_at dksX1_feed_1 11 rfl rfl)
theorem dX1_feed_36 : decode cX1_feed 36 = .ok (.aload_n 0, 1) := dk_42 (dk_at dksX1_feed_1 14 rfl rfl)
theorem dX1_feed_37 : decode cX1_feed 37 = .ok (.iload 5, 2) := dk_21 5 (dk_at dksX1_feed_1 15 rfl rfl)
theorem dX1_feed_39 : decode cX1_feed 39 = .ok (.invokevirtual 134, 3) := dk_182 0 134 (dk_at dksX1_feed_1 17 rfl rfl)
theorem dX1_feed_42 : decode cX1_feed 42 = .ok (.aload_n 0, 1) := dk_42 (dk_at dksX1_feed_1 20 rfl rfl)
theorem dX1_feed_43 : decode cX1_feed 43 = .ok (.getfield 131, 3) := dk_180 0 131 (dk_at dksX1_feed_1 21 rfl rfl)
theorem dX1_feed_46 : decode cX1_feed 46 = .ok (.ireturn, 1) := dk_172 (dk_at dksX1_feed_2 0 rfl rfl)
abbrev cX1_lay : ByteArray := prog_1_method_8_code
def yX1_lay : MethodName := ⟨RX1, "lay", "(I)V"⟩
def dkwX1_lay_1 : List UInt8 := [180, 0, 131, 4, 96, 181, 0, 131, 132, 2, 248, 167, 255, 226, 177]
abbrev dktX1_lay_1 : List UInt8 := dkwX1_lay_1 ++ []
def dkwX1_lay_0 : List UInt8 := [16, 24, 61, 28, 155, 0, 32, 42, 180, 0, 49, 42, 180, 0, 131, 27, 28, 122, 145, 84, 42, 89]
abbrev dktX1_lay_0 : List UInt8 := dkwX1_lay_0 ++ dktX1_lay_1
theorem dksX1_lay_0 : cX1_lay.data.toList.drop 0 = dktX1_lay_0 := by decide +kernel
theorem dksX1_lay_1 : cX1_lay.data.toList.drop 22 = dktX1_lay_1 := dk_seg dksX1_lay_0 22 rfl rfl
theorem dX1_lay_0 : decode cX1_lay 0 = .ok (.bipush 24, 2) := dk_16 24 (dk_at dksX1_lay_0 0 rfl rfl)
theorem dX1_lay_2 : decode cX1_lay 2 = .ok (.istore_n 2, 1) := dk_61 (dk_at dksX1_lay_0 2 rfl rfl)
theorem dX1_lay_3 : decode cX1_lay 3 = .ok (.iload_n 2, 1) := dk_28 (dk_at dksX1_lay_0 3 rfl rfl)
theorem dX1_lay_4 : decode cX1_lay 4 = .ok (.ifCond .lt 32, 3) := dk_155 0 32 (dk_at dksX1_lay_0 4 rfl rfl)
theorem dX1_lay_7 : decode cX1_lay 7 = .ok (.aload_n 0, 1) := dk_42 (dk_at dksX1_lay_0 7 rfl rfl)
theorem dX1_lay_8 : decode cX1_lay 8 = .ok (.getfield 49, 3) := dk_180 0 49 (dk_at dksX1_lay_0 8 rfl rfl)
theorem dX1_lay_11 : decode cX1_lay 11 = .ok (.aload_n 0, 1) := dk_42 (dk_at dksX1_lay_0 11 rfl rfl)
theorem dX1_lay_12 : decode cX1_lay 12 = .ok (.getfield 131, 3) := dk_180 0 131 (dk_at dksX1_lay_0 12 rfl rfl)
theorem dX1_lay_15 : decode cX1_lay 15 = .ok (.iload_n 1, 1) := dk_27 (dk_at dksX1_lay_0 15 rfl rfl)
theorem dX1_lay_16 : decode cX1_lay 16 = .ok (.iload_n 2, 1) := dk_28 (dk_at dksX1_lay_0 16 rfl rfl)
theorem dX1_lay_17 : decode cX1_lay 17 = .ok (.ishr, 1) := dk_122 (dk_at dksX1_lay_0 17 rfl rfl)
theorem dX1_lay_18 : decode cX1_lay 18 = .ok (.i2b, 1) := dk_145 (dk_at dksX1_lay_0 18 rfl rfl)
theorem dX1_lay_19 : decode cX1_lay 19 = .ok (.bastore, 1) := dk_84 (dk_at dksX1_lay_0 19 rfl rfl)
theorem dX1_lay_20 : decode cX1_lay 20 = .ok (.aload_n 0, 1) := dk_42 (dk_at dksX1_lay_0 20 rfl rfl)
theorem dX1_lay_21 : decode cX1_lay 21 = .ok (.dup, 1) := dk_89 (dk_at dksX1_lay_0 21 rfl rfl)
theorem dX1_lay_22 : decode cX1_lay 22 = .ok (.getfield 131, 3) := dk_180 0 131 (dk_at dksX1_lay_1 0 rfl rfl)
theorem dX1_lay_25 : decode cX1_lay 25 = .ok (.iconst 1, 1) := dk_4 (dk_at dksX1_lay_1 3 rfl rfl)
theorem dX1_lay_26 : decode cX1_lay 26 = .ok (.iadd, 1) := dk_96 (dk_at dksX1_lay_1 4 rfl rfl)
theorem dX1_lay_27 : decode cX1_lay 27 = .ok (.putfield 131, 3) := dk_181 0 131 (dk_at dksX1_lay_1 5 rfl rfl)
theorem dX1_lay_30 : decode cX1_lay 30 = .ok (.iinc 2 (-8), 3) := dk_132 2 248 (dk_at dksX1_lay_1 8 rfl rfl)
theorem dX1_lay_33 : decode cX1_lay 33 = .ok (.goto (-30), 3) := dk_167 255 226 (dk_at dksX1_lay_1 11 rfl rfl)
theorem dX1_lay_36 : decode cX1_lay 36 = .ok (.return_, 1) := dk_177 (dk_at dksX1_lay_1 14 rfl rfl)
abbrev cX1_fault : ByteArray := prog_1_method_10_code
def yX1_fault : MethodName := ⟨RX1, "fault", "()I"⟩
theorem dX1_fault_0 : decode cX1_fault 0 = .ok (.aload_n 0, 1) := by decide +kernel
theorem dX1_fault_1 : decode cX1_fault 1 = .ok (.getfield 53, 3) := by decide +kernel
theorem dX1_fault_4 : decode cX1_fault 4 = .ok (.ireturn, 1) := by decide +kernel
abbrev cX1_steps : ByteArray := prog_1_method_23_code
def yX1_steps : MethodName := ⟨RX1, "steps", "(I)I"⟩
def dkwX1_steps_2 : List UInt8 := [182, 1, 141, 42, 180, 0, 30, 180, 0, 187, 172]
abbrev dktX1_steps_2 : List UInt8 := dkwX1_steps_2 ++ []
def dkwX1_steps_1 : List UInt8 := [163, 0, 7, 4, 167, 0, 4, 3, 182, 1, 137, 154, 0, 5, 2, 172, 42, 42, 180, 0, 30, 27]
abbrev dktX1_steps_1 : List UInt8 := dkwX1_steps_1 ++ dktX1_steps_2
def dkwX1_steps_0 : List UInt8 := [42, 27, 4, 16, 50, 184, 0, 180, 153, 0, 22, 42, 180, 0, 30, 180, 0, 187, 27, 96, 17, 78, 32]
abbrev dktX1_steps_0 : List UInt8 := dkwX1_steps_0 ++ dktX1_steps_1
theorem dksX1_steps_0 : cX1_steps.data.toList.drop 0 = dktX1_steps_0 := by decide +kernel
theorem dksX1_steps_1 : cX1_steps.data.toList.drop 23 = dktX1_steps_1 := dk_seg dksX1_steps_0 23 rfl rfl
theorem dksX1_steps_2 : cX1_steps.data.toList.drop 45 = dktX1_steps_2 := dk_seg dksX1_steps_1 22 rfl rfl
theorem dX1_steps_0 : decode cX1_steps 0 = .ok (.aload_n 0, 1) := dk_42 (dk_at dksX1_steps_0 0 rfl rfl)
theorem dX1_steps_1 : decode cX1_steps 1 = .ok (.iload_n 1, 1) := dk_27 (dk_at dksX1_steps_0 1 rfl rfl)
theorem dX1_steps_2 : decode cX1_steps 2 = .ok (.iconst 1, 1) := dk_4 (dk_at dksX1_steps_0 2 rfl rfl)
theorem dX1_steps_3 : decode cX1_steps 3 = .ok (.bipush 50, 2) := dk_16 50 (dk_at dksX1_steps_0 3 rfl rfl)
theorem dX1_steps_5 : decode cX1_steps 5 = .ok (.invokestatic 180, 3) := dk_184 0 180 (dk_at dksX1_steps_0 5 rfl rfl)
theorem dX1_steps_8 : decode cX1_steps 8 = .ok (.ifCond .eq 22, 3) := dk_153 0 22 (dk_at dksX1_steps_0 8 rfl rfl)
theorem dX1_steps_11 : decode cX1_steps 11 = .ok (.aload_n 0, 1) := dk_42 (dk_at dksX1_steps_0 11 rfl rfl)
theorem dX1_steps_12 : decode cX1_steps 12 = .ok (.getfield 30, 3) := dk_180 0 30 (dk_at dksX1_steps_0 12 rfl rfl)
theorem dX1_steps_15 : decode cX1_steps 15 = .ok (.getfield 187, 3) := dk_180 0 187 (dk_at dksX1_steps_0 15 rfl rfl)
theorem dX1_steps_18 : decode cX1_steps 18 = .ok (.iload_n 1, 1) := dk_27 (dk_at dksX1_steps_0 18 rfl rfl)
theorem dX1_steps_19 : decode cX1_steps 19 = .ok (.iadd, 1) := dk_96 (dk_at dksX1_steps_0 19 rfl rfl)
theorem dX1_steps_20 : decode cX1_steps 20 = .ok (.sipush 20000, 3) := dk_17 78 32 (dk_at dksX1_steps_0 20 rfl rfl)
theorem dX1_steps_23 : decode cX1_steps 23 = .ok (.if_icmp .gt 7, 3) := dk_163 0 7 (dk_at dksX1_steps_1 0 rfl rfl)
theorem dX1_steps_26 : decode cX1_steps 26 = .ok (.iconst 1, 1) := dk_4 (dk_at dksX1_steps_1 3 rfl rfl)
theorem dX1_steps_27 : decode cX1_steps 27 = .ok (.goto 4, 3) := dk_167 0 4 (dk_at dksX1_steps_1 4 rfl rfl)
theorem dX1_steps_30 : decode cX1_steps 30 = .ok (.iconst 0, 1) := dk_3 (dk_at dksX1_steps_1 7 rfl rfl)
theorem dX1_steps_31 : decode cX1_steps 31 = .ok (.invokevirtual 393, 3) := dk_182 1 137 (dk_at dksX1_steps_1 8 rfl rfl)
theorem dX1_steps_34 : decode cX1_steps 34 = .ok (.ifCond .ne 5, 3) := dk_154 0 5 (dk_at dksX1_steps_1 11 rfl rfl)
theorem dX1_steps_37 : decode cX1_steps 37 = .ok (.iconst (-1), 1) := dk_2 (dk_at dksX1_steps_1 14 rfl rfl)
theorem dX1_steps_38 : decode cX1_steps 38 = .ok (.ireturn, 1) := dk_172 (dk_at dksX1_steps_1 15 rfl rfl)
theorem dX1_steps_39 : decode cX1_steps 39 = .ok (.aload_n 0, 1) := dk_42 (dk_at dksX1_steps_1 16 rfl rfl)
theorem dX1_steps_40 : decode cX1_steps 40 = .ok (.aload_n 0, 1) := dk_42 (dk_at dksX1_steps_1 17 rfl rfl)
theorem dX1_steps_41 : decode cX1_steps 41 = .ok (.getfield 30, 3) := dk_180 0 30 (dk_at dksX1_steps_1 18 rfl rfl)
theorem dX1_steps_44 : decode cX1_steps 44 = .ok (.iload_n 1, 1) := dk_27 (dk_at dksX1_steps_1 21 rfl rfl)
theorem dX1_steps_45 : decode cX1_steps 45 = .ok (.invokevirtual 397, 3) := dk_182 1 141 (dk_at dksX1_steps_2 0 rfl rfl)
theorem dX1_steps_48 : decode cX1_steps 48 = .ok (.aload_n 0, 1) := dk_42 (dk_at dksX1_steps_2 3 rfl rfl)
theorem dX1_steps_49 : decode cX1_steps 49 = .ok (.getfield 30, 3) := dk_180 0 30 (dk_at dksX1_steps_2 4 rfl rfl)
theorem dX1_steps_52 : decode cX1_steps 52 = .ok (.getfield 187, 3) := dk_180 0 187 (dk_at dksX1_steps_2 7 rfl rfl)
theorem dX1_steps_55 : decode cX1_steps 55 = .ok (.ireturn, 1) := dk_172 (dk_at dksX1_steps_2 10 rfl rfl)
abbrev cX1_within : ByteArray := prog_1_method_6_code
def yX1_within : MethodName := ⟨RX1, "within", "(III)Z"⟩
def dkwX1_within_0 : List UInt8 := [26, 27, 161, 0, 12, 26, 28, 163, 0, 7, 4, 167, 0, 4, 3, 172]
abbrev dktX1_within_0 : List UInt8 := dkwX1_within_0 ++ []
theorem dksX1_within_0 : cX1_within.data.toList.drop 0 = dktX1_within_0 := by decide +kernel
theorem dX1_within_0 : decode cX1_within 0 = .ok (.iload_n 0, 1) := dk_26 (dk_at dksX1_within_0 0 rfl rfl)
theorem dX1_within_1 : decode cX1_within 1 = .ok (.iload_n 1, 1) := dk_27 (dk_at dksX1_within_0 1 rfl rfl)
theorem dX1_within_2 : decode cX1_within 2 = .ok (.if_icmp .lt 12, 3) := dk_161 0 12 (dk_at dksX1_within_0 2 rfl rfl)
theorem dX1_within_5 : decode cX1_within 5 = .ok (.iload_n 0, 1) := dk_26 (dk_at dksX1_within_0 5 rfl rfl)
theorem dX1_within_6 : decode cX1_within 6 = .ok (.iload_n 2, 1) := dk_28 (dk_at dksX1_within_0 6 rfl rfl)
theorem dX1_within_7 : decode cX1_within 7 = .ok (.if_icmp .gt 7, 3) := dk_163 0 7 (dk_at dksX1_within_0 7 rfl rfl)
theorem dX1_within_10 : decode cX1_within 10 = .ok (.iconst 1, 1) := dk_4 (dk_at dksX1_within_0 10 rfl rfl)
theorem dX1_within_11 : decode cX1_within 11 = .ok (.goto 4, 3) := dk_167 0 4 (dk_at dksX1_within_0 11 rfl rfl)
theorem dX1_within_14 : decode cX1_within 14 = .ok (.iconst 0, 1) := dk_3 (dk_at dksX1_within_0 14 rfl rfl)
theorem dX1_within_15 : decode cX1_within 15 = .ok (.ireturn, 1) := dk_172 (dk_at dksX1_within_0 15 rfl rfl)
abbrev cX1_does : ByteArray := prog_1_method_21_code
def yX1_does : MethodName := ⟨RX1, "does", "(Z)Z"⟩
def dkwX1_does_0 : List UInt8 := [27, 153, 0, 13, 42, 180, 0, 19, 182, 1, 123, 167, 0, 9, 42, 4, 182, 1, 126, 87, 27, 172]
abbrev dktX1_does_0 : List UInt8 := dkwX1_does_0 ++ []
theorem dksX1_does_0 : cX1_does.data.toList.drop 0 = dktX1_does_0 := by decide +kernel
theorem dX1_does_0 : decode cX1_does 0 = .ok (.iload_n 1, 1) := dk_27 (dk_at dksX1_does_0 0 rfl rfl)
theorem dX1_does_1 : decode cX1_does 1 = .ok (.ifCond .eq 13, 3) := dk_153 0 13 (dk_at dksX1_does_0 1 rfl rfl)
theorem dX1_does_4 : decode cX1_does 4 = .ok (.aload_n 0, 1) := dk_42 (dk_at dksX1_does_0 4 rfl rfl)
theorem dX1_does_5 : decode cX1_does 5 = .ok (.getfield 19, 3) := dk_180 0 19 (dk_at dksX1_does_0 5 rfl rfl)
theorem dX1_does_8 : decode cX1_does 8 = .ok (.invokevirtual 379, 3) := dk_182 1 123 (dk_at dksX1_does_0 8 rfl rfl)
theorem dX1_does_11 : decode cX1_does 11 = .ok (.goto 9, 3) := dk_167 0 9 (dk_at dksX1_does_0 11 rfl rfl)
theorem dX1_does_14 : decode cX1_does 14 = .ok (.aload_n 0, 1) := dk_42 (dk_at dksX1_does_0 14 rfl rfl)
theorem dX1_does_15 : decode cX1_does 15 = .ok (.iconst 1, 1) := dk_4 (dk_at dksX1_does_0 15 rfl rfl)
theorem dX1_does_16 : decode cX1_does 16 = .ok (.invokevirtual 382, 3) := dk_182 1 126 (dk_at dksX1_does_0 16 rfl rfl)
theorem dX1_does_19 : decode cX1_does 19 = .ok (.pop, 1) := dk_87 (dk_at dksX1_does_0 19 rfl rfl)
theorem dX1_does_20 : decode cX1_does 20 = .ok (.iload_n 1, 1) := dk_27 (dk_at dksX1_does_0 20 rfl rfl)
theorem dX1_does_21 : decode cX1_does 21 = .ok (.ireturn, 1) := dk_172 (dk_at dksX1_does_0 21 rfl rfl)
abbrev cX1_refuses : ByteArray := prog_1_method_20_code
def yX1_refuses : MethodName := ⟨RX1, "refuses", "(I)I"⟩
def dkwX1_refuses_0 : List UInt8 := [42, 180, 0, 19, 180, 0, 155, 27, 92, 46, 4, 96, 79, 2, 172]
abbrev dktX1_refuses_0 : List UInt8 := dkwX1_refuses_0 ++ []
theorem dksX1_refuses_0 : cX1_refuses.data.toList.drop 0 = dktX1_refuses_0 := by decide +kernel
theorem dX1_refuses_0 : decode cX1_refuses 0 = .ok (.aload_n 0, 1) := dk_42 (dk_at dksX1_refuses_0 0 rfl rfl)
theorem dX1_refuses_1 : decode cX1_refuses 1 = .ok (.getfield 19, 3) := dk_180 0 19 (dk_at dksX1_refuses_0 1 rfl rfl)
theorem dX1_refuses_4 : decode cX1_refuses 4 = .ok (.getfield 155, 3) := dk_180 0 155 (dk_at dksX1_refuses_0 4 rfl rfl)
theorem dX1_refuses_7 : decode cX1_refuses 7 = .ok (.iload_n 1, 1) := dk_27 (dk_at dksX1_refuses_0 7 rfl rfl)
theorem dX1_refuses_8 : decode cX1_refuses 8 = .ok (.dup2, 1) := dk_92 (dk_at dksX1_refuses_0 8 rfl rfl)
theorem dX1_refuses_9 : decode cX1_refuses 9 = .ok (.iaload, 1) := dk_46 (dk_at dksX1_refuses_0 9 rfl rfl)
theorem dX1_refuses_10 : decode cX1_refuses 10 = .ok (.iconst 1, 1) := dk_4 (dk_at dksX1_refuses_0 10 rfl rfl)
theorem dX1_refuses_11 : decode cX1_refuses 11 = .ok (.iadd, 1) := dk_96 (dk_at dksX1_refuses_0 11 rfl rfl)
theorem dX1_refuses_12 : decode cX1_refuses 12 = .ok (.iastore, 1) := dk_79 (dk_at dksX1_refuses_0 12 rfl rfl)
theorem dX1_refuses_13 : decode cX1_refuses 13 = .ok (.iconst (-1), 1) := dk_2 (dk_at dksX1_refuses_0 13 rfl rfl)
theorem dX1_refuses_14 : decode cX1_refuses 14 = .ok (.ireturn, 1) := dk_172 (dk_at dksX1_refuses_0 14 rfl rfl)
abbrev cX1_goes : ByteArray := prog_1_method_22_code
def yX1_goes : MethodName := ⟨RX1, "goes", "(LCircuitCells$State;I)V"⟩
def dkwX1_goes_1 : List UInt8 := [192, 0, 81, 180, 1, 130, 182, 1, 133, 132, 3, 1, 167, 255, 223, 177]
abbrev dktX1_goes_1 : List UInt8 := dkwX1_goes_1 ++ []
def dkwX1_goes_0 : List UInt8 := [3, 62, 29, 28, 162, 0, 34, 43, 42, 180, 0, 10, 42, 180, 0, 42, 43, 180, 1, 14, 182, 1, 129]
abbrev dktX1_goes_0 : List UInt8 := dkwX1_goes_0 ++ dktX1_goes_1
theorem dksX1_goes_0 : cX1_goes.data.toList.drop 0 = dktX1_goes_0 := by decide +kernel
theorem dksX1_goes_1 : cX1_goes.data.toList.drop 23 = dktX1_goes_1 := dk_seg dksX1_goes_0 23 rfl rfl
theorem dX1_goes_0 : decode cX1_goes 0 = .ok (.iconst 0, 1) := dk_3 (dk_at dksX1_goes_0 0 rfl rfl)
theorem dX1_goes_1 : decode cX1_goes 1 = .ok (.istore_n 3, 1) := dk_62 (dk_at dksX1_goes_0 1 rfl rfl)
theorem dX1_goes_2 : decode cX1_goes 2 = .ok (.iload_n 3, 1) := dk_29 (dk_at dksX1_goes_0 2 rfl rfl)
theorem dX1_goes_3 : decode cX1_goes 3 = .ok (.iload_n 2, 1) := dk_28 (dk_at dksX1_goes_0 3 rfl rfl)
theorem dX1_goes_4 : decode cX1_goes 4 = .ok (.if_icmp .ge 34, 3) := dk_162 0 34 (dk_at dksX1_goes_0 4 rfl rfl)
theorem dX1_goes_7 : decode cX1_goes 7 = .ok (.aload_n 1, 1) := dk_43 (dk_at dksX1_goes_0 7 rfl rfl)
theorem dX1_goes_8 : decode cX1_goes 8 = .ok (.aload_n 0, 1) := dk_42 (dk_at dksX1_goes_0 8 rfl rfl)
theorem dX1_goes_9 : decode cX1_goes 9 = .ok (.getfield 10, 3) := dk_180 0 10 (dk_at dksX1_goes_0 9 rfl rfl)
theorem dX1_goes_12 : decode cX1_goes 12 = .ok (.aload_n 0, 1) := dk_42 (dk_at dksX1_goes_0 12 rfl rfl)
theorem dX1_goes_13 : decode cX1_goes 13 = .ok (.getfield 42, 3) := dk_180 0 42 (dk_at dksX1_goes_0 13 rfl rfl)
theorem dX1_goes_16 : decode cX1_goes 16 = .ok (.aload_n 1, 1) := dk_43 (dk_at dksX1_goes_0 16 rfl rfl)
theorem dX1_goes_17 : decode cX1_goes 17 = .ok (.getfield 270, 3) := dk_180 1 14 (dk_at dksX1_goes_0 17 rfl rfl)
theorem dX1_goes_20 : decode cX1_goes 20 = .ok (.invokevirtual 385, 3) := dk_182 1 129 (dk_at dksX1_goes_0 20 rfl rfl)
theorem dX1_goes_23 : decode cX1_goes 23 = .ok (.checkcast 81, 3) := dk_192 0 81 (dk_at dksX1_goes_1 0 rfl rfl)
theorem dX1_goes_26 : decode cX1_goes 26 = .ok (.getfield 386, 3) := dk_180 1 130 (dk_at dksX1_goes_1 3 rfl rfl)
theorem dX1_goes_29 : decode cX1_goes 29 = .ok (.invokevirtual 389, 3) := dk_182 1 133 (dk_at dksX1_goes_1 6 rfl rfl)
theorem dX1_goes_32 : decode cX1_goes 32 = .ok (.iinc 3 1, 3) := dk_132 3 1 (dk_at dksX1_goes_1 9 rfl rfl)
theorem dX1_goes_35 : decode cX1_goes 35 = .ok (.goto (-33), 3) := dk_167 255 223 (dk_at dksX1_goes_1 12 rfl rfl)
theorem dX1_goes_38 : decode cX1_goes 38 = .ok (.return_, 1) := dk_177 (dk_at dksX1_goes_1 15 rfl rfl)
abbrev cX1_lose : ByteArray := prog_1_method_24_code
def yX1_lose : MethodName := ⟨RX1, "lose", "(I)I"⟩
def dkwX1_lose_1 : List UInt8 := [4, 167, 0, 4, 3, 182, 1, 137, 154, 0, 5, 2, 172, 42, 180, 0, 30, 27, 181, 1, 17, 28, 172]
abbrev dktX1_lose_1 : List UInt8 := dkwX1_lose_1 ++ []
def dkwX1_lose_0 : List UInt8 := [42, 180, 0, 30, 180, 1, 17, 61, 42, 27, 3, 16, 20, 184, 0, 180, 153, 0, 12, 27, 28, 159, 0, 7]
abbrev dktX1_lose_0 : List UInt8 := dkwX1_lose_0 ++ dktX1_lose_1
theorem dksX1_lose_0 : cX1_lose.data.toList.drop 0 = dktX1_lose_0 := by decide +kernel
theorem dksX1_lose_1 : cX1_lose.data.toList.drop 24 = dktX1_lose_1 := dk_seg dksX1_lose_0 24 rfl rfl
theorem dX1_lose_0 : decode cX1_lose 0 = .ok (.aload_n 0, 1) := dk_42 (dk_at dksX1_lose_0 0 rfl rfl)
theorem dX1_lose_1 : decode cX1_lose 1 = .ok (.getfield 30, 3) := dk_180 0 30 (dk_at dksX1_lose_0 1 rfl rfl)
theorem dX1_lose_4 : decode cX1_lose 4 = .ok (.getfield 273, 3) := dk_180 1 17 (dk_at dksX1_lose_0 4 rfl rfl)
theorem dX1_lose_7 : decode cX1_lose 7 = .ok (.istore_n 2, 1) := dk_61 (dk_at dksX1_lose_0 7 rfl rfl)
theorem dX1_lose_8 : decode cX1_lose 8 = .ok (.aload_n 0, 1) := dk_42 (dk_at dksX1_lose_0 8 rfl rfl)
theorem dX1_lose_9 : decode cX1_lose 9 = .ok (.iload_n 1, 1) := dk_27 (dk_at dksX1_lose_0 9 rfl rfl)
theorem dX1_lose_10 : decode cX1_lose 10 = .ok (.iconst 0, 1) := dk_3 (dk_at dksX1_lose_0 10 rfl rfl)
theorem dX1_lose_11 : decode cX1_lose 11 = .ok (.bipush 20, 2) := dk_16 20 (dk_at dksX1_lose_0 11 rfl rfl)
theorem dX1_lose_13 : decode cX1_lose 13 = .ok (.invokestatic 180, 3) := dk_184 0 180 (dk_at dksX1_lose_0 13 rfl rfl)
theorem dX1_lose_16 : decode cX1_lose 16 = .ok (.ifCond .eq 12, 3) := dk_153 0 12 (dk_at dksX1_lose_0 16 rfl rfl)
theorem dX1_lose_19 : decode cX1_lose 19 = .ok (.iload_n 1, 1) := dk_27 (dk_at dksX1_lose_0 19 rfl rfl)
theorem dX1_lose_20 : decode cX1_lose 20 = .ok (.iload_n 2, 1) := dk_28 (dk_at dksX1_lose_0 20 rfl rfl)
theorem dX1_lose_21 : decode cX1_lose 21 = .ok (.if_icmp .eq 7, 3) := dk_159 0 7 (dk_at dksX1_lose_0 21 rfl rfl)
theorem dX1_lose_24 : decode cX1_lose 24 = .ok (.iconst 1, 1) := dk_4 (dk_at dksX1_lose_1 0 rfl rfl)
theorem dX1_lose_25 : decode cX1_lose 25 = .ok (.goto 4, 3) := dk_167 0 4 (dk_at dksX1_lose_1 1 rfl rfl)
theorem dX1_lose_28 : decode cX1_lose 28 = .ok (.iconst 0, 1) := dk_3 (dk_at dksX1_lose_1 4 rfl rfl)
theorem dX1_lose_29 : decode cX1_lose 29 = .ok (.invokevirtual 393, 3) := dk_182 1 137 (dk_at dksX1_lose_1 5 rfl rfl)
theorem dX1_lose_32 : decode cX1_lose 32 = .ok (.ifCond .ne 5, 3) := dk_154 0 5 (dk_at dksX1_lose_1 8 rfl rfl)
theorem dX1_lose_35 : decode cX1_lose 35 = .ok (.iconst (-1), 1) := dk_2 (dk_at dksX1_lose_1 11 rfl rfl)
theorem dX1_lose_36 : decode cX1_lose 36 = .ok (.ireturn, 1) := dk_172 (dk_at dksX1_lose_1 12 rfl rfl)
theorem dX1_lose_37 : decode cX1_lose 37 = .ok (.aload_n 0, 1) := dk_42 (dk_at dksX1_lose_1 13 rfl rfl)
theorem dX1_lose_38 : decode cX1_lose 38 = .ok (.getfield 30, 3) := dk_180 0 30 (dk_at dksX1_lose_1 14 rfl rfl)
theorem dX1_lose_41 : decode cX1_lose 41 = .ok (.iload_n 1, 1) := dk_27 (dk_at dksX1_lose_1 17 rfl rfl)
theorem dX1_lose_42 : decode cX1_lose 42 = .ok (.putfield 273, 3) := dk_181 1 17 (dk_at dksX1_lose_1 18 rfl rfl)
theorem dX1_lose_45 : decode cX1_lose 45 = .ok (.iload_n 2, 1) := dk_28 (dk_at dksX1_lose_1 21 rfl rfl)
theorem dX1_lose_46 : decode cX1_lose 46 = .ok (.ireturn, 1) := dk_172 (dk_at dksX1_lose_1 22 rfl rfl)
abbrev cX1_stall : ByteArray := prog_1_method_25_code
def yX1_stall : MethodName := ⟨RX1, "stall", "(I)I"⟩
def dkwX1_stall_1 : List UInt8 := [4, 167, 0, 4, 3, 182, 1, 137, 154, 0, 5, 2, 172, 42, 180, 0, 30, 27, 181, 1, 20, 28, 172]
abbrev dktX1_stall_1 : List UInt8 := dkwX1_stall_1 ++ []
def dkwX1_stall_0 : List UInt8 := [42, 180, 0, 30, 180, 1, 20, 61, 42, 27, 3, 16, 30, 184, 0, 180, 153, 0, 12, 27, 28, 159, 0, 7]
abbrev dktX1_stall_0 : List UInt8 := dkwX1_stall_0 ++ dktX1_stall_1
theorem dksX1_stall_0 : cX1_stall.data.toList.drop 0 = dktX1_stall_0 := by decide +kernel
theorem dksX1_stall_1 : cX1_stall.data.toList.drop 24 = dktX1_stall_1 := dk_seg dksX1_stall_0 24 rfl rfl
theorem dX1_stall_0 : decode cX1_stall 0 = .ok (.aload_n 0, 1) := dk_42 (dk_at dksX1_stall_0 0 rfl rfl)
theorem dX1_stall_1 : decode cX1_stall 1 = .ok (.getfield 30, 3) := dk_180 0 30 (dk_at dksX1_stall_0 1 rfl rfl)
theorem dX1_stall_4 : decode cX1_stall 4 = .ok (.getfield 276, 3) := dk_180 1 20 (dk_at dksX1_stall_0 4 rfl rfl)
theorem dX1_stall_7 : decode cX1_stall 7 = .ok (.istore_n 2, 1) := dk_61 (dk_at dksX1_stall_0 7 rfl rfl)
theorem dX1_stall_8 : decode cX1_stall 8 = .ok (.aload_n 0, 1) := dk_42 (dk_at dksX1_stall_0 8 rfl rfl)
theorem dX1_stall_9 : decode cX1_stall 9 = .ok (.iload_n 1, 1) := dk_27 (dk_at dksX1_stall_0 9 rfl rfl)
theorem dX1_stall_10 : decode cX1_stall 10 = .ok (.iconst 0, 1) := dk_3 (dk_at dksX1_stall_0 10 rfl rfl)
theorem dX1_stall_11 : decode cX1_stall 11 = .ok (.bipush 30, 2) := dk_16 30 (dk_at dksX1_stall_0 11 rfl rfl)
theorem dX1_stall_13 : decode cX1_stall 13 = .ok (.invokestatic 180, 3) := dk_184 0 180 (dk_at dksX1_stall_0 13 rfl rfl)
theorem dX1_stall_16 : decode cX1_stall 16 = .ok (.ifCond .eq 12, 3) := dk_153 0 12 (dk_at dksX1_stall_0 16 rfl rfl)
theorem dX1_stall_19 : decode cX1_stall 19 = .ok (.iload_n 1, 1) := dk_27 (dk_at dksX1_stall_0 19 rfl rfl)
theorem dX1_stall_20 : decode cX1_stall 20 = .ok (.iload_n 2, 1) := dk_28 (dk_at dksX1_stall_0 20 rfl rfl)
theorem dX1_stall_21 : decode cX1_stall 21 = .ok (.if_icmp .eq 7, 3) := dk_159 0 7 (dk_at dksX1_stall_0 21 rfl rfl)
theorem dX1_stall_24 : decode cX1_stall 24 = .ok (.iconst 1, 1) := dk_4 (dk_at dksX1_stall_1 0 rfl rfl)
theorem dX1_stall_25 : decode cX1_stall 25 = .ok (.goto 4, 3) := dk_167 0 4 (dk_at dksX1_stall_1 1 rfl rfl)
theorem dX1_stall_28 : decode cX1_stall 28 = .ok (.iconst 0, 1) := dk_3 (dk_at dksX1_stall_1 4 rfl rfl)
theorem dX1_stall_29 : decode cX1_stall 29 = .ok (.invokevirtual 393, 3) := dk_182 1 137 (dk_at dksX1_stall_1 5 rfl rfl)
theorem dX1_stall_32 : decode cX1_stall 32 = .ok (.ifCond .ne 5, 3) := dk_154 0 5 (dk_at dksX1_stall_1 8 rfl rfl)
theorem dX1_stall_35 : decode cX1_stall 35 = .ok (.iconst (-1), 1) := dk_2 (dk_at dksX1_stall_1 11 rfl rfl)
theorem dX1_stall_36 : decode cX1_stall 36 = .ok (.ireturn, 1) := dk_172 (dk_at dksX1_stall_1 12 rfl rfl)
theorem dX1_stall_37 : decode cX1_stall 37 = .ok (.aload_n 0, 1) := dk_42 (dk_at dksX1_stall_1 13 rfl rfl)
theorem dX1_stall_38 : decode cX1_stall 38 = .ok (.getfield 30, 3) := dk_180 0 30 (dk_at dksX1_stall_1 14 rfl rfl)
theorem dX1_stall_41 : decode cX1_stall 41 = .ok (.iload_n 1, 1) := dk_27 (dk_at dksX1_stall_1 17 rfl rfl)
theorem dX1_stall_42 : decode cX1_stall 42 = .ok (.putfield 276, 3) := dk_181 1 20 (dk_at dksX1_stall_1 18 rfl rfl)
theorem dX1_stall_45 : decode cX1_stall 45 = .ok (.iload_n 2, 1) := dk_28 (dk_at dksX1_stall_1 21 rfl rfl)
theorem dX1_stall_46 : decode cX1_stall 46 = .ok (.ireturn, 1) := dk_172 (dk_at dksX1_stall_1 22 rfl rfl)
abbrev cX1_undo : ByteArray := prog_1_method_27_code
def yX1_undo : MethodName := ⟨RX1, "undo", "()I"⟩
def dkwX1_undo_2 : List UInt8 := [192, 0, 31, 182, 1, 147, 42, 180, 0, 19, 180, 0, 161, 172]
abbrev dktX1_undo_2 : List UInt8 := dkwX1_undo_2 ++ []
def dkwX1_undo_1 : List UInt8 := [181, 0, 161, 42, 180, 0, 30, 42, 180, 0, 19, 180, 1, 144, 42, 180, 0, 19, 180, 0, 161, 182, 1, 129]
abbrev dktX1_undo_1 : List UInt8 := dkwX1_undo_1 ++ dktX1_undo_2
def dkwX1_undo_0 : List UInt8 := [42, 180, 0, 19, 180, 0, 161, 154, 0, 5, 2, 172, 42, 180, 0, 19, 89, 180, 0, 161, 4, 100]
abbrev dktX1_undo_0 : List UInt8 := dkwX1_undo_0 ++ dktX1_undo_1
theorem dksX1_undo_0 : cX1_undo.data.toList.drop 0 = dktX1_undo_0 := by decide +kernel
theorem dksX1_undo_1 : cX1_undo.data.toList.drop 22 = dktX1_undo_1 := dk_seg dksX1_undo_0 22 rfl rfl
theorem dksX1_undo_2 : cX1_undo.data.toList.drop 46 = dktX1_undo_2 := dk_seg dksX1_undo_1 24 rfl rfl
theorem dX1_undo_0 : decode cX1_undo 0 = .ok (.aload_n 0, 1) := dk_42 (dk_at dksX1_undo_0 0 rfl rfl)
theorem dX1_undo_1 : decode cX1_undo 1 = .ok (.getfield 19, 3) := dk_180 0 19 (dk_at dksX1_undo_0 1 rfl rfl)
theorem dX1_undo_4 : decode cX1_undo 4 = .ok (.getfield 161, 3) := dk_180 0 161 (dk_at dksX1_undo_0 4 rfl rfl)
theorem dX1_undo_7 : decode cX1_undo 7 = .ok (.ifCond .ne 5, 3) := dk_154 0 5 (dk_at dksX1_undo_0 7 rfl rfl)
theorem dX1_undo_10 : decode cX1_undo 10 = .ok (.iconst (-1), 1) := dk_2 (dk_at dksX1_undo_0 10 rfl rfl)
theorem dX1_undo_11 : decode cX1_undo 11 = .ok (.ireturn, 1) := dk_172 (dk_at dksX1_undo_0 11 rfl rfl)
theorem dX1_undo_12 : decode cX1_undo 12 = .ok (.aload_n 0, 1) := dk_42 (dk_at dksX1_undo_0 12 rfl rfl)
theorem dX1_undo_13 : decode cX1_undo 13 = .ok (.getfield 19, 3) := dk_180 0 19 (dk_at dksX1_undo_0 13 rfl rfl)
theorem dX1_undo_16 : decode cX1_undo 16 = .ok (.dup, 1) := dk_89 (dk_at dksX1_undo_0 16 rfl rfl)
theorem dX1_undo_17 : decode cX1_undo 17 = .ok (.getfield 161, 3) := dk_180 0 161 (dk_at dksX1_undo_0 17 rfl rfl)
theorem dX1_undo_20 : decode cX1_undo 20 = .ok (.iconst 1, 1) := dk_4 (dk_at dksX1_undo_0 20 rfl rfl)
theorem dX1_undo_21 : decode cX1_undo 21 = .ok (.isub, 1) := dk_100 (dk_at dksX1_undo_0 21 rfl rfl)
theorem dX1_undo_22 : decode cX1_undo 22 = .ok (.putfield 161, 3) := dk_181 0 161 (dk_at dksX1_undo_1 0 rfl rfl)
theorem dX1_undo_25 : decode cX1_undo 25 = .ok (.aload_n 0, 1) := dk_42 (dk_at dksX1_undo_1 3 rfl rfl)
theorem dX1_undo_26 : decode cX1_undo 26 = .ok (.getfield 30, 3) := dk_180 0 30 (dk_at dksX1_undo_1 4 rfl rfl)
theorem dX1_undo_29 : decode cX1_undo 29 = .ok (.aload_n 0, 1) := dk_42 (dk_at dksX1_undo_1 7 rfl rfl)
theorem dX1_undo_30 : decode cX1_undo 30 = .ok (.getfield 19, 3) := dk_180 0 19 (dk_at dksX1_undo_1 8 rfl rfl)
theorem dX1_undo_33 : decode cX1_undo 33 = .ok (.getfield 400, 3) := dk_180 1 144 (dk_at dksX1_undo_1 11 rfl rfl)
theorem dX1_undo_36 : decode cX1_undo 36 = .ok (.aload_n 0, 1) := dk_42 (dk_at dksX1_undo_1 14 rfl rfl)
theorem dX1_undo_37 : decode cX1_undo 37 = .ok (.getfield 19, 3) := dk_180 0 19 (dk_at dksX1_undo_1 15 rfl rfl)
theorem dX1_undo_40 : decode cX1_undo 40 = .ok (.getfield 161, 3) := dk_180 0 161 (dk_at dksX1_undo_1 18 rfl rfl)
theorem dX1_undo_43 : decode cX1_undo 43 = .ok (.invokevirtual 385, 3) := dk_182 1 129 (dk_at dksX1_undo_1 21 rfl rfl)
theorem dX1_undo_46 : decode cX1_undo 46 = .ok (.checkcast 31, 3) := dk_192 0 31 (dk_at dksX1_undo_2 0 rfl rfl)
theorem dX1_undo_49 : decode cX1_undo 49 = .ok (.invokevirtual 403, 3) := dk_182 1 147 (dk_at dksX1_undo_2 3 rfl rfl)
theorem dX1_undo_52 : decode cX1_undo 52 = .ok (.aload_n 0, 1) := dk_42 (dk_at dksX1_undo_2 6 rfl rfl)
theorem dX1_undo_53 : decode cX1_undo 53 = .ok (.getfield 19, 3) := dk_180 0 19 (dk_at dksX1_undo_2 7 rfl rfl)
theorem dX1_undo_56 : decode cX1_undo 56 = .ok (.getfield 161, 3) := dk_180 0 161 (dk_at dksX1_undo_2 10 rfl rfl)
theorem dX1_undo_59 : decode cX1_undo 59 = .ok (.ireturn, 1) := dk_172 (dk_at dksX1_undo_2 13 rfl rfl)
abbrev cX1_settles : ByteArray := prog_1_method_34_code
def yX1_settles : MethodName := ⟨RX1, "settles", "()I"⟩
def dkwX1_settles_3 : List UInt8 := [160, 0, 16, 42, 180, 0, 34, 180, 0, 171, 5, 160, 0, 5, 28, 60, 132, 2, 1, 167, 255, 190, 2, 172]
abbrev dktX1_settles_3 : List UInt8 := dkwX1_settles_3 ++ []
def dkwX1_settles_2 : List UInt8 := [5, 164, 0, 5, 2, 60, 27, 2, 159, 0, 13, 28, 27, 100, 16, 40, 160, 0, 5, 27, 172, 27, 2]
abbrev dktX1_settles_2 : List UInt8 := dkwX1_settles_2 ++ dktX1_settles_3
def dkwX1_settles_1 : List UInt8 := [28, 17, 1, 184, 163, 0, 65, 42, 42, 180, 0, 34, 4, 182, 1, 141, 42, 42, 180, 0, 34, 182, 1, 190]
abbrev dktX1_settles_1 : List UInt8 := dkwX1_settles_1 ++ dktX1_settles_2
def dkwX1_settles_0 : List UInt8 := [42, 3, 182, 1, 155, 42, 180, 0, 34, 180, 0, 171, 5, 160, 0, 7, 3, 167, 0, 4, 2, 60, 4, 61]
abbrev dktX1_settles_0 : List UInt8 := dkwX1_settles_0 ++ dktX1_settles_1
theorem dksX1_settles_0 : cX1_settles.data.toList.drop 0 = dktX1_settles_0 := by decide +kernel
theorem dksX1_settles_1 : cX1_settles.data.toList.drop 24 = dktX1_settles_1 := dk_seg dksX1_settles_0 24 rfl rfl
theorem dksX1_settles_2 : cX1_settles.data.toList.drop 48 = dktX1_settles_2 := dk_seg dksX1_settles_1 24 rfl rfl
theorem dksX1_settles_3 : cX1_settles.data.toList.drop 71 = dktX1_settles_3 := dk_seg dksX1_settles_2 23 rfl rfl
theorem dX1_settles_0 : decode cX1_settles 0 = .ok (.aload_n 0, 1) := dk_42 (dk_at dksX1_settles_0 0 rfl rfl)
theorem dX1_settles_1 : decode cX1_settles 1 = .ok (.iconst 0, 1) := dk_3 (dk_at dksX1_settles_0 1 rfl rfl)
theorem dX1_settles_2 : decode cX1_settles 2 = .ok (.invokevirtual 411, 3) := dk_182 1 155 (dk_at dksX1_settles_0 2 rfl rfl)
theorem dX1_settles_5 : decode cX1_settles 5 = .ok (.aload_n 0, 1) := dk_42 (dk_at dksX1_settles_0 5 rfl rfl)
theorem dX1_settles_6 : decode cX1_settles 6 = .ok (.getfield 34, 3) := dk_180 0 34 (dk_at dksX1_settles_0 6 rfl rfl)
theorem dX1_settles_9 : decode cX1_settles 9 = .ok (.getfield 171, 3) := dk_180 0 171 (dk_at dksX1_settles_0 9 rfl rfl)
theorem dX1_settles_12 : decode cX1_settles 12 = .ok (.iconst 2, 1) := dk_5 (dk_at dksX1_settles_0 12 rfl rfl)
theorem dX1_settles_13 : decode cX1_settles 13 = .ok (.if_icmp .ne 7, 3) := dk_160 0 7 (dk_at dksX1_settles_0 13 rfl rfl)
theorem dX1_settles_16 : decode cX1_settles 16 = .ok (.iconst 0, 1) := dk_3 (dk_at dksX1_settles_0 16 rfl rfl)
theorem dX1_settles_17 : decode cX1_settles 17 = .ok (.goto 4, 3) := dk_167 0 4 (dk_at dksX1_settles_0 17 rfl rfl)
theorem dX1_settles_20 : decode cX1_settles 20 = .ok (.iconst (-1), 1) := dk_2 (dk_at dksX1_settles_0 20 rfl rfl)
theorem dX1_settles_21 : decode cX1_settles 21 = .ok (.istore_n 1, 1) := dk_60 (dk_at dksX1_settles_0 21 rfl rfl)
theorem dX1_settles_22 : decode cX1_settles 22 = .ok (.iconst 1, 1) := dk_4 (dk_at dksX1_settles_0 22 rfl rfl)
theorem dX1_settles_23 : decode cX1_settles 23 = .ok (.istore_n 2, 1) := dk_61 (dk_at dksX1_settles_0 23 rfl rfl)
theorem dX1_settles_24 : decode cX1_settles 24 = .ok (.iload_n 2, 1) := dk_28 (dk_at dksX1_settles_1 0 rfl rfl)
theorem dX1_settles_25 : decode cX1_settles 25 = .ok (.sipush 440, 3) := dk_17 1 184 (dk_at dksX1_settles_1 1 rfl rfl)
theorem dX1_settles_28 : decode cX1_settles 28 = .ok (.if_icmp .gt 65, 3) := dk_163 0 65 (dk_at dksX1_settles_1 4 rfl rfl)
theorem dX1_settles_31 : decode cX1_settles 31 = .ok (.aload_n 0, 1) := dk_42 (dk_at dksX1_settles_1 7 rfl rfl)
theorem dX1_settles_32 : decode cX1_settles 32 = .ok (.aload_n 0, 1) := dk_42 (dk_at dksX1_settles_1 8 rfl rfl)
theorem dX1_settles_33 : decode cX1_settles 33 = .ok (.getfield 34, 3) := dk_180 0 34 (dk_at dksX1_settles_1 9 rfl rfl)
theorem dX1_settles_36 : decode cX1_settles 36 = .ok (.iconst 1, 1) := dk_4 (dk_at dksX1_settles_1 12 rfl rfl)
theorem dX1_settles_37 : decode cX1_settles 37 = .ok (.invokevirtual 397, 3) := dk_182 1 141 (dk_at dksX1_settles_1 13 rfl rfl)
theorem dX1_settles_40 : decode cX1_settles 40 = .ok (.aload_n 0, 1) := dk_42 (dk_at dksX1_settles_1 16 rfl rfl)
theorem dX1_settles_41 : decode cX1_settles 41 = .ok (.aload_n 0, 1) := dk_42 (dk_at dksX1_settles_1 17 rfl rfl)
theorem dX1_settles_42 : decode cX1_settles 42 = .ok (.getfield 34, 3) := dk_180 0 34 (dk_at dksX1_settles_1 18 rfl rfl)
theorem dX1_settles_45 : decode cX1_settles 45 = .ok (.invokevirtual 446, 3) := dk_182 1 190 (dk_at dksX1_settles_1 21 rfl rfl)
theorem dX1_settles_48 : decode cX1_settles 48 = .ok (.iconst 2, 1) := dk_5 (dk_at dksX1_settles_2 0 rfl rfl)
theorem dX1_settles_49 : decode cX1_settles 49 = .ok (.if_icmp .le 5, 3) := dk_164 0 5 (dk_at dksX1_settles_2 1 rfl rfl)
theorem dX1_settles_52 : decode cX1_settles 52 = .ok (.iconst (-1), 1) := dk_2 (dk_at dksX1_settles_2 4 rfl rfl)
theorem dX1_settles_53 : decode cX1_settles 53 = .ok (.istore_n 1, 1) := dk_60 (dk_at dksX1_settles_2 5 rfl rfl)
theorem dX1_settles_54 : decode cX1_settles 54 = .ok (.iload_n 1, 1) := dk_27 (dk_at dksX1_settles_2 6 rfl rfl)
theorem dX1_settles_55 : decode cX1_settles 55 = .ok (.iconst (-1), 1) := dk_2 (dk_at dksX1_settles_2 7 rfl rfl)
theorem dX1_settles_56 : decode cX1_settles 56 = .ok (.if_icmp .eq 13, 3) := dk_159 0 13 (dk_at dksX1_settles_2 8 rfl rfl)
theorem dX1_settles_59 : decode cX1_settles 59 = .ok (.iload_n 2, 1) := dk_28 (dk_at dksX1_settles_2 11 rfl rfl)
theorem dX1_settles_60 : decode cX1_settles 60 = .ok (.iload_n 1, 1) := dk_27 (dk_at dksX1_settles_2 12 rfl rfl)
theorem dX1_settles_61 : decode cX1_settles 61 = .ok (.isub, 1) := dk_100 (dk_at dksX1_settles_2 13 rfl rfl)
theorem dX1_settles_62 : decode cX1_settles 62 = .ok (.bipush 40, 2) := dk_16 40 (dk_at dksX1_settles_2 14 rfl rfl)
theorem dX1_settles_64 : decode cX1_settles 64 = .ok (.if_icmp .ne 5, 3) := dk_160 0 5 (dk_at dksX1_settles_2 16 rfl rfl)
theorem dX1_settles_67 : decode cX1_settles 67 = .ok (.iload_n 1, 1) := dk_27 (dk_at dksX1_settles_2 19 rfl rfl)
theorem dX1_settles_68 : decode cX1_settles 68 = .ok (.ireturn, 1) := dk_172 (dk_at dksX1_settles_2 20 rfl rfl)
theorem dX1_settles_69 : decode cX1_settles 69 = .ok (.iload_n 1, 1) := dk_27 (dk_at dksX1_settles_2 21 rfl rfl)
theorem dX1_settles_70 : decode cX1_settles 70 = .ok (.iconst (-1), 1) := dk_2 (dk_at dksX1_settles_2 22 rfl rfl)
theorem dX1_settles_71 : decode cX1_settles 71 = .ok (.if_icmp .ne 16, 3) := dk_160 0 16 (dk_at dksX1_settles_3 0 rfl rfl)
theorem dX1_settles_74 : decode cX1_settles 74 = .ok (.aload_n 0, 1) := dk_42 (dk_at dksX1_settles_3 3 rfl rfl)
theorem dX1_settles_75 : decode cX1_settles 75 = .ok (.getfield 34, 3) := dk_180 0 34 (dk_at dksX1_settles_3 4 rfl rfl)
theorem dX1_settles_78 : decode cX1_settles 78 = .ok (.getfield 171, 3) := dk_180 0 171 (dk_at dksX1_settles_3 7 rfl rfl)
theorem dX1_settles_81 : decode cX1_settles 81 = .ok (.iconst 2, 1) := dk_5 (dk_at dksX1_settles_3 10 rfl rfl)
theorem dX1_settles_82 : decode cX1_settles 82 = .ok (.if_icmp .ne 5, 3) := dk_160 0 5 (dk_at dksX1_settles_3 11 rfl rfl)
theorem dX1_settles_85 : decode cX1_settles 85 = .ok (.iload_n 2, 1) := dk_28 (dk_at dksX1_settles_3 14 rfl rfl)
theorem dX1_settles_86 : decode cX1_settles 86 = .ok (.istore_n 1, 1) := dk_60 (dk_at dksX1_settles_3 15 rfl rfl)
theorem dX1_settles_87 : decode cX1_settles 87 = .ok (.iinc 2 1, 3) := dk_132 2 1 (dk_at dksX1_settles_3 16 rfl rfl)
theorem dX1_settles_90 : decode cX1_settles 90 = .ok (.goto (-66), 3) := dk_167 255 190 (dk_at dksX1_settles_3 19 rfl rfl)
theorem dX1_settles_93 : decode cX1_settles 93 = .ok (.iconst (-1), 1) := dk_2 (dk_at dksX1_settles_3 22 rfl rfl)
theorem dX1_settles_94 : decode cX1_settles 94 = .ok (.ireturn, 1) := dk_172 (dk_at dksX1_settles_3 23 rfl rfl)
abbrev cX1_tries : ByteArray := prog_1_method_28_code
def yX1_tries : MethodName := ⟨RX1, "tries", "(I)V"⟩
def dkwX1_tries_0 : List UInt8 := [42, 180, 0, 34, 42, 180, 0, 30, 182, 1, 147, 42, 42, 180, 0, 34, 27, 182, 1, 141, 177]
abbrev dktX1_tries_0 : List UInt8 := dkwX1_tries_0 ++ []
theorem dksX1_tries_0 : cX1_tries.data.toList.drop 0 = dktX1_tries_0 := by decide +kernel
theorem dX1_tries_0 : decode cX1_tries 0 = .ok (.aload_n 0, 1) := dk_42 (dk_at dksX1_tries_0 0 rfl rfl)
theorem dX1_tries_1 : decode cX1_tries 1 = .ok (.getfield 34, 3) := dk_180 0 34 (dk_at dksX1_tries_0 1 rfl rfl)
theorem dX1_tries_4 : decode cX1_tries 4 = .ok (.aload_n 0, 1) := dk_42 (dk_at dksX1_tries_0 4 rfl rfl)
theorem dX1_tries_5 : decode cX1_tries 5 = .ok (.getfield 30, 3) := dk_180 0 30 (dk_at dksX1_tries_0 5 rfl rfl)
theorem dX1_tries_8 : decode cX1_tries 8 = .ok (.invokevirtual 403, 3) := dk_182 1 147 (dk_at dksX1_tries_0 8 rfl rfl)
theorem dX1_tries_11 : decode cX1_tries 11 = .ok (.aload_n 0, 1) := dk_42 (dk_at dksX1_tries_0 11 rfl rfl)
theorem dX1_tries_12 : decode cX1_tries 12 = .ok (.aload_n 0, 1) := dk_42 (dk_at dksX1_tries_0 12 rfl rfl)
theorem dX1_tries_13 : decode cX1_tries 13 = .ok (.getfield 34, 3) := dk_180 0 34 (dk_at dksX1_tries_0 13 rfl rfl)
theorem dX1_tries_16 : decode cX1_tries 16 = .ok (.iload_n 1, 1) := dk_27 (dk_at dksX1_tries_0 16 rfl rfl)
theorem dX1_tries_17 : decode cX1_tries 17 = .ok (.invokevirtual 397, 3) := dk_182 1 141 (dk_at dksX1_tries_0 17 rfl rfl)
theorem dX1_tries_20 : decode cX1_tries 20 = .ok (.return_, 1) := dk_177 (dk_at dksX1_tries_0 20 rfl rfl)
abbrev cX1_off : ByteArray := prog_1_method_33_code
def yX1_off : MethodName := ⟨RX1, "off", "(LCircuitCells$State;)I"⟩
def dkwX1_off_0 : List UInt8 := [43, 42, 180, 0, 10, 182, 0, 214, 43, 180, 0, 243, 100, 184, 1, 187, 172]
abbrev dktX1_off_0 : List UInt8 := dkwX1_off_0 ++ []
theorem dksX1_off_0 : cX1_off.data.toList.drop 0 = dktX1_off_0 := by decide +kernel
theorem dX1_off_0 : decode cX1_off 0 = .ok (.aload_n 1, 1) := dk_43 (dk_at dksX1_off_0 0 rfl rfl)
theorem dX1_off_1 : decode cX1_off 1 = .ok (.aload_n 0, 1) := dk_42 (dk_at dksX1_off_0 1 rfl rfl)
theorem dX1_off_2 : decode cX1_off 2 = .ok (.getfield 10, 3) := dk_180 0 10 (dk_at dksX1_off_0 2 rfl rfl)
theorem dX1_off_5 : decode cX1_off 5 = .ok (.invokevirtual 214, 3) := dk_182 0 214 (dk_at dksX1_off_0 5 rfl rfl)
theorem dX1_off_8 : decode cX1_off 8 = .ok (.aload_n 1, 1) := dk_43 (dk_at dksX1_off_0 8 rfl rfl)
theorem dX1_off_9 : decode cX1_off 9 = .ok (.getfield 243, 3) := dk_180 0 243 (dk_at dksX1_off_0 9 rfl rfl)
theorem dX1_off_12 : decode cX1_off 12 = .ok (.isub, 1) := dk_100 (dk_at dksX1_off_0 12 rfl rfl)
theorem dX1_off_13 : decode cX1_off 13 = .ok (.invokestatic 443, 3) := dk_184 1 187 (dk_at dksX1_off_0 13 rfl rfl)
theorem dX1_off_16 : decode cX1_off 16 = .ok (.ireturn, 1) := dk_172 (dk_at dksX1_off_0 16 rfl rfl)
abbrev cX1_note : ByteArray := prog_1_method_38_code
def yX1_note : MethodName := ⟨RX1, "note", "(II)I"⟩
def dkwX1_note_3 : List UInt8 := [42, 180, 0, 19, 89, 180, 0, 164, 4, 96, 181, 0, 164, 42, 180, 0, 19, 180, 0, 164, 172]
abbrev dktX1_note_3 : List UInt8 := dkwX1_note_3 ++ []
def dkwX1_note_2 : List UInt8 := [180, 0, 19, 180, 0, 164, 27, 79, 42, 180, 0, 19, 180, 1, 204, 42, 180, 0, 19, 180, 0, 164, 28, 79]
abbrev dktX1_note_2 : List UInt8 := dkwX1_note_2 ++ dktX1_note_3
def dkwX1_note_1 : List UInt8 := [17, 3, 231, 184, 0, 180, 154, 0, 9, 42, 5, 182, 1, 126, 172, 42, 180, 0, 19, 180, 1, 201, 42]
abbrev dktX1_note_1 : List UInt8 := dkwX1_note_1 ++ dktX1_note_2
def dkwX1_note_0 : List UInt8 := [42, 180, 0, 19, 180, 0, 164, 16, 8, 159, 0, 24, 27, 3, 16, 60, 184, 0, 180, 153, 0, 14, 28, 3]
abbrev dktX1_note_0 : List UInt8 := dkwX1_note_0 ++ dktX1_note_1
theorem dksX1_note_0 : cX1_note.data.toList.drop 0 = dktX1_note_0 := by decide +kernel
theorem dksX1_note_1 : cX1_note.data.toList.drop 24 = dktX1_note_1 := dk_seg dksX1_note_0 24 rfl rfl
theorem dksX1_note_2 : cX1_note.data.toList.drop 47 = dktX1_note_2 := dk_seg dksX1_note_1 23 rfl rfl
theorem dksX1_note_3 : cX1_note.data.toList.drop 71 = dktX1_note_3 := dk_seg dksX1_note_2 24 rfl rfl
theorem dX1_note_0 : decode cX1_note 0 = .ok (.aload_n 0, 1) := dk_42 (dk_at dksX1_note_0 0 rfl rfl)
theorem dX1_note_1 : decode cX1_note 1 = .ok (.getfield 19, 3) := dk_180 0 19 (dk_at dksX1_note_0 1 rfl rfl)
theorem dX1_note_4 : decode cX1_note 4 = .ok (.getfield 164, 3) := dk_180 0 164 (dk_at dksX1_note_0 4 rfl rfl)
theorem dX1_note_7 : decode cX1_note 7 = .ok (.bipush 8, 2) := dk_16 8 (dk_at dksX1_note_0 7 rfl rfl)
theorem dX1_note_9 : decode cX1_note 9 = .ok (.if_icmp .eq 24, 3) := dk_159 0 24 (dk_at dksX1_note_0 9 rfl rfl)
theorem dX1_note_12 : decode cX1_note 12 = .ok (.iload_n 1, 1) := dk_27 (dk_at dksX1_note_0 12 rfl rfl)
theorem dX1_note_13 : decode cX1_note 13 = .ok (.iconst 0, 1) := dk_3 (dk_at dksX1_note_0 13 rfl rfl)
theorem dX1_note_14 : decode cX1_note 14 = .ok (.bipush 60, 2) := dk_16 60 (dk_at dksX1_note_0 14 rfl rfl)
theorem dX1_note_16 : decode cX1_note 16 = .ok (.invokestatic 180, 3) := dk_184 0 180 (dk_at dksX1_note_0 16 rfl rfl)
theorem dX1_note_19 : decode cX1_note 19 = .ok (.ifCond .eq 14, 3) := dk_153 0 14 (dk_at dksX1_note_0 19 rfl rfl)
theorem dX1_note_22 : decode cX1_note 22 = .ok (.iload_n 2, 1) := dk_28 (dk_at dksX1_note_0 22 rfl rfl)
theorem dX1_note_23 : decode cX1_note 23 = .ok (.iconst 0, 1) := dk_3 (dk_at dksX1_note_0 23 rfl rfl)
theorem dX1_note_24 : decode cX1_note 24 = .ok (.sipush 999, 3) := dk_17 3 231 (dk_at dksX1_note_1 0 rfl rfl)
theorem dX1_note_27 : decode cX1_note 27 = .ok (.invokestatic 180, 3) := dk_184 0 180 (dk_at dksX1_note_1 3 rfl rfl)
theorem dX1_note_30 : decode cX1_note 30 = .ok (.ifCond .ne 9, 3) := dk_154 0 9 (dk_at dksX1_note_1 6 rfl rfl)
theorem dX1_note_33 : decode cX1_note 33 = .ok (.aload_n 0, 1) := dk_42 (dk_at dksX1_note_1 9 rfl rfl)
theorem dX1_note_34 : decode cX1_note 34 = .ok (.iconst 2, 1) := dk_5 (dk_at dksX1_note_1 10 rfl rfl)
theorem dX1_note_35 : decode cX1_note 35 = .ok (.invokevirtual 382, 3) := dk_182 1 126 (dk_at dksX1_note_1 11 rfl rfl)
theorem dX1_note_38 : decode cX1_note 38 = .ok (.ireturn, 1) := dk_172 (dk_at dksX1_note_1 14 rfl rfl)
theorem dX1_note_39 : decode cX1_note 39 = .ok (.aload_n 0, 1) := dk_42 (dk_at dksX1_note_1 15 rfl rfl)
theorem dX1_note_40 : decode cX1_note 40 = .ok (.getfield 19, 3) := dk_180 0 19 (dk_at dksX1_note_1 16 rfl rfl)
theorem dX1_note_43 : decode cX1_note 43 = .ok (.getfield 457, 3) := dk_180 1 201 (dk_at dksX1_note_1 19 rfl rfl)
theorem dX1_note_46 : decode cX1_note 46 = .ok (.aload_n 0, 1) := dk_42 (dk_at dksX1_note_1 22 rfl rfl)
theorem dX1_note_47 : decode cX1_note 47 = .ok (.getfield 19, 3) := dk_180 0 19 (dk_at dksX1_note_2 0 rfl rfl)
theorem dX1_note_50 : decode cX1_note 50 = .ok (.getfield 164, 3) := dk_180 0 164 (dk_at dksX1_note_2 3 rfl rfl)
theorem dX1_note_53 : decode cX1_note 53 = .ok (.iload_n 1, 1) := dk_27 (dk_at dksX1_note_2 6 rfl rfl)
theorem dX1_note_54 : decode cX1_note 54 = .ok (.iastore, 1) := dk_79 (dk_at dksX1_note_2 7 rfl rfl)
theorem dX1_note_55 : decode cX1_note 55 = .ok (.aload_n 0, 1) := dk_42 (dk_at dksX1_note_2 8 rfl rfl)
theorem dX1_note_56 : decode cX1_note 56 = .ok (.getfield 19, 3) := dk_180 0 19 (dk_at dksX1_note_2 9 rfl rfl)
theorem dX1_note_59 : decode cX1_note 59 = .ok (.getfield 460, 3) := dk_180 1 204 (dk_at dksX1_note_2 12 rfl rfl)
theorem dX1_note_62 : decode cX1_note 62 = .ok (.aload_n 0, 1) := dk_42 (dk_at dksX1_note_2 15 rfl rfl)
theorem dX1_note_63 : decode cX1_note 63 = .ok (.getfield 19, 3) := dk_180 0 19 (dk_at dksX1_note_2 16 rfl rfl)
theorem dX1_note_66 : decode cX1_note 66 = .ok (.getfield 164, 3) := dk_180 0 164 (dk_at dksX1_note_2 19 rfl rfl)
theorem dX1_note_69 : decode cX1_note 69 = .ok (.iload_n 2, 1) := dk_28 (dk_at dksX1_note_2 22 rfl rfl)
theorem dX1_note_70 : decode cX1_note 70 = .ok (.iastore, 1) := dk_79 (dk_at dksX1_note_2 23 rfl rfl)
theorem dX1_note_71 : decode cX1_note 71 = .ok (.aload_n 0, 1) := dk_42 (dk_at dksX1_note_3 0 rfl rfl)
theorem dX1_note_72 : decode cX1_note 72 = .ok (.getfield 19, 3) := dk_180 0 19 (dk_at dksX1_note_3 1 rfl rfl)
theorem dX1_note_75 : decode cX1_note 75 = .ok (.dup, 1) := dk_89 (dk_at dksX1_note_3 4 rfl rfl)
theorem dX1_note_76 : decode cX1_note 76 = .ok (.getfield 164, 3) := dk_180 0 164 (dk_at dksX1_note_3 5 rfl rfl)
theorem dX1_note_79 : decode cX1_note 79 = .ok (.iconst 1, 1) := dk_4 (dk_at dksX1_note_3 8 rfl rfl)
theorem dX1_note_80 : decode cX1_note 80 = .ok (.iadd, 1) := dk_96 (dk_at dksX1_note_3 9 rfl rfl)
theorem dX1_note_81 : decode cX1_note 81 = .ok (.putfield 164, 3) := dk_181 0 164 (dk_at dksX1_note_3 10 rfl rfl)
theorem dX1_note_84 : decode cX1_note 84 = .ok (.aload_n 0, 1) := dk_42 (dk_at dksX1_note_3 13 rfl rfl)
theorem dX1_note_85 : decode cX1_note 85 = .ok (.getfield 19, 3) := dk_180 0 19 (dk_at dksX1_note_3 14 rfl rfl)
theorem dX1_note_88 : decode cX1_note 88 = .ok (.getfield 164, 3) := dk_180 0 164 (dk_at dksX1_note_3 17 rfl rfl)
theorem dX1_note_91 : decode cX1_note 91 = .ok (.ireturn, 1) := dk_172 (dk_at dksX1_note_3 20 rfl rfl)
abbrev cX1_forget : ByteArray := prog_1_method_44_code
def yX1_forget : MethodName := ⟨RX1, "forget", "()V"⟩
def dkwX1_forget_0 : List UInt8 := [42, 180, 0, 19, 3, 181, 0, 164, 177]
abbrev dktX1_forget_0 : List UInt8 := dkwX1_forget_0 ++ []
theorem dksX1_forget_0 : cX1_forget.data.toList.drop 0 = dktX1_forget_0 := by decide +kernel
theorem dX1_forget_0 : decode cX1_forget 0 = .ok (.aload_n 0, 1) := dk_42 (dk_at dksX1_forget_0 0 rfl rfl)
theorem dX1_forget_1 : decode cX1_forget 1 = .ok (.getfield 19, 3) := dk_180 0 19 (dk_at dksX1_forget_0 1 rfl rfl)
theorem dX1_forget_4 : decode cX1_forget 4 = .ok (.iconst 0, 1) := dk_3 (dk_at dksX1_forget_0 4 rfl rfl)
theorem dX1_forget_5 : decode cX1_forget 5 = .ok (.putfield 164, 3) := dk_181 0 164 (dk_at dksX1_forget_0 5 rfl rfl)
theorem dX1_forget_8 : decode cX1_forget 8 = .ok (.return_, 1) := dk_177 (dk_at dksX1_forget_0 8 rfl rfl)
abbrev cX1_image : ByteArray := prog_1_method_49_code
def yX1_image : MethodName := ⟨RX1, "image", "()V"⟩
def dkwX1_image_0 : List UInt8 := [42, 180, 0, 23, 42, 180, 0, 19, 182, 1, 237, 42, 4, 181, 0, 167, 177]
abbrev dktX1_image_0 : List UInt8 := dkwX1_image_0 ++ []
theorem dksX1_image_0 : cX1_image.data.toList.drop 0 = dktX1_image_0 := by decide +kernel
theorem dX1_image_0 : decode cX1_image 0 = .ok (.aload_n 0, 1) := dk_42 (dk_at dksX1_image_0 0 rfl rfl)
theorem dX1_image_1 : decode cX1_image 1 = .ok (.getfield 23, 3) := dk_180 0 23 (dk_at dksX1_image_0 1 rfl rfl)
theorem dX1_image_4 : decode cX1_image 4 = .ok (.aload_n 0, 1) := dk_42 (dk_at dksX1_image_0 4 rfl rfl)
theorem dX1_image_5 : decode cX1_image 5 = .ok (.getfield 19, 3) := dk_180 0 19 (dk_at dksX1_image_0 5 rfl rfl)
theorem dX1_image_8 : decode cX1_image 8 = .ok (.invokevirtual 493, 3) := dk_182 1 237 (dk_at dksX1_image_0 8 rfl rfl)
theorem dX1_image_11 : decode cX1_image 11 = .ok (.aload_n 0, 1) := dk_42 (dk_at dksX1_image_0 11 rfl rfl)
theorem dX1_image_12 : decode cX1_image 12 = .ok (.iconst 1, 1) := dk_4 (dk_at dksX1_image_0 12 rfl rfl)
theorem dX1_image_13 : decode cX1_image 13 = .ok (.putfield 167, 3) := dk_181 0 167 (dk_at dksX1_image_0 13 rfl rfl)
theorem dX1_image_16 : decode cX1_image 16 = .ok (.return_, 1) := dk_177 (dk_at dksX1_image_0 16 rfl rfl)
abbrev cX1_restore : ByteArray := prog_1_method_50_code
def yX1_restore : MethodName := ⟨RX1, "restore", "()Z"⟩
def dkwX1_restore_0 : List UInt8 := [42, 180, 0, 167, 154, 0, 5, 3, 172, 42, 180, 0, 19, 42, 180, 0, 23, 182, 1, 237, 4, 172]
abbrev dktX1_restore_0 : List UInt8 := dkwX1_restore_0 ++ []
theorem dksX1_restore_0 : cX1_restore.data.toList.drop 0 = dktX1_restore_0 := by decide +kernel
theorem dX1_restore_0 : decode cX1_restore 0 = .ok (.aload_n 0, 1) := dk_42 (dk_at dksX1_restore_0 0 rfl rfl)
theorem dX1_restore_1 : decode cX1_restore 1 = .ok (.getfield 167, 3) := dk_180 0 167 (dk_at dksX1_restore_0 1 rfl rfl)
theorem dX1_restore_4 : decode cX1_restore 4 = .ok (.ifCond .ne 5, 3) := dk_154 0 5 (dk_at dksX1_restore_0 4 rfl rfl)
theorem dX1_restore_7 : decode cX1_restore 7 = .ok (.iconst 0, 1) := dk_3 (dk_at dksX1_restore_0 7 rfl rfl)
theorem dX1_restore_8 : decode cX1_restore 8 = .ok (.ireturn, 1) := dk_172 (dk_at dksX1_restore_0 8 rfl rfl)
theorem dX1_restore_9 : decode cX1_restore 9 = .ok (.aload_n 0, 1) := dk_42 (dk_at dksX1_restore_0 9 rfl rfl)
theorem dX1_restore_10 : decode cX1_restore 10 = .ok (.getfield 19, 3) := dk_180 0 19 (dk_at dksX1_restore_0 10 rfl rfl)
theorem dX1_restore_13 : decode cX1_restore 13 = .ok (.aload_n 0, 1) := dk_42 (dk_at dksX1_restore_0 13 rfl rfl)
theorem dX1_restore_14 : decode cX1_restore 14 = .ok (.getfield 23, 3) := dk_180 0 23 (dk_at dksX1_restore_0 14 rfl rfl)
theorem dX1_restore_17 : decode cX1_restore 17 = .ok (.invokevirtual 493, 3) := dk_182 1 237 (dk_at dksX1_restore_0 17 rfl rfl)
theorem dX1_restore_20 : decode cX1_restore 20 = .ok (.iconst 1, 1) := dk_4 (dk_at dksX1_restore_0 20 rfl rfl)
theorem dX1_restore_21 : decode cX1_restore 21 = .ok (.ireturn, 1) := dk_172 (dk_at dksX1_restore_0 21 rfl rfl)
abbrev cX1_line : ByteArray := prog_1_method_9_code
def yX1_line : MethodName := ⟨RX1, "line", "(I)I"⟩
def dkwX1_line_4 : List UInt8 := [3, 181, 0, 161, 42, 180, 0, 19, 3, 181, 0, 164, 42, 3, 181, 0, 167, 3, 172]
abbrev dktX1_line_4 : List UInt8 := dkwX1_line_4 ++ []
def dkwX1_line_3 : List UInt8 := [46, 4, 96, 79, 44, 180, 0, 158, 172, 42, 180, 0, 30, 42, 180, 0, 10, 182, 0, 114, 42, 180, 0, 19]
abbrev dktX1_line_3 : List UInt8 := dkwX1_line_3 ++ dktX1_line_4
def dkwX1_line_2 : List UInt8 := [181, 0, 10, 167, 0, 30, 77, 42, 44, 180, 0, 152, 181, 0, 53, 42, 180, 0, 19, 180, 0, 155, 3, 92]
abbrev dktX1_line_2 : List UInt8 := dkwX1_line_2 ++ dktX1_line_3
def dkwX1_line_1 : List UInt8 := [181, 0, 131, 42, 2, 181, 0, 53, 42, 187, 0, 141, 89, 42, 180, 0, 49, 27, 183, 0, 143, 182, 0, 146]
abbrev dktX1_line_1 : List UInt8 := dkwX1_line_1 ++ dktX1_line_2
def dkwX1_line_0 : List UInt8 := [27, 155, 0, 15, 27, 42, 180, 0, 131, 163, 0, 7, 4, 167, 0, 4, 3, 184, 0, 137, 42, 3]
abbrev dktX1_line_0 : List UInt8 := dkwX1_line_0 ++ dktX1_line_1
theorem dksX1_line_0 : cX1_line.data.toList.drop 0 = dktX1_line_0 := by decide +kernel
theorem dksX1_line_1 : cX1_line.data.toList.drop 22 = dktX1_line_1 := dk_seg dksX1_line_0 22 rfl rfl
theorem dksX1_line_2 : cX1_line.data.toList.drop 46 = dktX1_line_2 := dk_seg dksX1_line_1 24 rfl rfl
theorem dksX1_line_3 : cX1_line.data.toList.drop 70 = dktX1_line_3 := dk_seg dksX1_line_2 24 rfl rfl
theorem dksX1_line_4 : cX1_line.data.toList.drop 94 = dktX1_line_4 := dk_seg dksX1_line_3 24 rfl rfl
theorem dX1_line_0 : decode cX1_line 0 = .ok (.iload_n 1, 1) := dk_27 (dk_at dksX1_line_0 0 rfl rfl)
theorem dX1_line_1 : decode cX1_line 1 = .ok (.ifCond .lt 15, 3) := dk_155 0 15 (dk_at dksX1_line_0 1 rfl rfl)
theorem dX1_line_4 : decode cX1_line 4 = .ok (.iload_n 1, 1) := dk_27 (dk_at dksX1_line_0 4 rfl rfl)
theorem dX1_line_5 : decode cX1_line 5 = .ok (.aload_n 0, 1) := dk_42 (dk_at dksX1_line_0 5 rfl rfl)
theorem dX1_line_6 : decode cX1_line 6 = .ok (.getfield 131, 3) := dk_180 0 131 (dk_at dksX1_line_0 6 rfl rfl)
theorem dX1_line_9 : decode cX1_line 9 = .ok (.if_icmp .gt 7, 3) := dk_163 0 7 (dk_at dksX1_line_0 9 rfl rfl)
theorem dX1_line_12 : decode cX1_line 12 = .ok (.iconst 1, 1) := dk_4 (dk_at dksX1_line_0 12 rfl rfl)
theorem dX1_line_13 : decode cX1_line 13 = .ok (.goto 4, 3) := dk_167 0 4 (dk_at dksX1_line_0 13 rfl rfl)
theorem dX1_line_16 : decode cX1_line 16 = .ok (.iconst 0, 1) := dk_3 (dk_at dksX1_line_0 16 rfl rfl)
theorem dX1_line_17 : decode cX1_line 17 = .ok (.invokestatic 137, 3) := dk_184 0 137 (dk_at dksX1_line_0 17 rfl rfl)
theorem dX1_line_20 : decode cX1_line 20 = .ok (.aload_n 0, 1) := dk_42 (dk_at dksX1_line_0 20 rfl rfl)
theorem dX1_line_21 : decode cX1_line 21 = .ok (.iconst 0, 1) := dk_3 (dk_at dksX1_line_0 21 rfl rfl)
theorem dX1_line_22 : decode cX1_line 22 = .ok (.putfield 131, 3) := dk_181 0 131 (dk_at dksX1_line_1 0 rfl rfl)
theorem dX1_line_25 : decode cX1_line 25 = .ok (.aload_n 0, 1) := dk_42 (dk_at dksX1_line_1 3 rfl rfl)
theorem dX1_line_26 : decode cX1_line 26 = .ok (.iconst (-1), 1) := dk_2 (dk_at dksX1_line_1 4 rfl rfl)
theorem dX1_line_27 : decode cX1_line 27 = .ok (.putfield 53, 3) := dk_181 0 53 (dk_at dksX1_line_1 5 rfl rfl)
theorem dX1_line_30 : decode cX1_line 30 = .ok (.aload_n 0, 1) := dk_42 (dk_at dksX1_line_1 8 rfl rfl)
theorem dX1_line_31 : decode cX1_line 31 = .ok (.new 141, 3) := dk_187 0 141 (dk_at dksX1_line_1 9 rfl rfl)
theorem dX1_line_34 : decode cX1_line 34 = .ok (.dup, 1) := dk_89 (dk_at dksX1_line_1 12 rfl rfl)
theorem dX1_line_35 : decode cX1_line 35 = .ok (.aload_n 0, 1) := dk_42 (dk_at dksX1_line_1 13 rfl rfl)
theorem dX1_line_36 : decode cX1_line 36 = .ok (.getfield 49, 3) := dk_180 0 49 (dk_at dksX1_line_1 14 rfl rfl)
theorem dX1_line_39 : decode cX1_line 39 = .ok (.iload_n 1, 1) := dk_27 (dk_at dksX1_line_1 17 rfl rfl)
theorem dX1_line_40 : decode cX1_line 40 = .ok (.invokespecial 143, 3) := dk_183 0 143 (dk_at dksX1_line_1 18 rfl rfl)
theorem dX1_line_43 : decode cX1_line 43 = .ok (.invokevirtual 146, 3) := dk_182 0 146 (dk_at dksX1_line_1 21 rfl rfl)
theorem dX1_line_46 : decode cX1_line 46 = .ok (.putfield 10, 3) := dk_181 0 10 (dk_at dksX1_line_2 0 rfl rfl)
theorem dX1_line_49 : decode cX1_line 49 = .ok (.goto 30, 3) := dk_167 0 30 (dk_at dksX1_line_2 3 rfl rfl)
theorem dX1_line_52 : decode cX1_line 52 = .ok (.astore_n 2, 1) := dk_77 (dk_at dksX1_line_2 6 rfl rfl)
theorem dX1_line_53 : decode cX1_line 53 = .ok (.aload_n 0, 1) := dk_42 (dk_at dksX1_line_2 7 rfl rfl)
theorem dX1_line_54 : decode cX1_line 54 = .ok (.aload_n 2, 1) := dk_44 (dk_at dksX1_line_2 8 rfl rfl)
theorem dX1_line_55 : decode cX1_line 55 = .ok (.getfield 152, 3) := dk_180 0 152 (dk_at dksX1_line_2 9 rfl rfl)
theorem dX1_line_58 : decode cX1_line 58 = .ok (.putfield 53, 3) := dk_181 0 53 (dk_at dksX1_line_2 12 rfl rfl)
theorem dX1_line_61 : decode cX1_line 61 = .ok (.aload_n 0, 1) := dk_42 (dk_at dksX1_line_2 15 rfl rfl)
theorem dX1_line_62 : decode cX1_line 62 = .ok (.getfield 19, 3) := dk_180 0 19 (dk_at dksX1_line_2 16 rfl rfl)
theorem dX1_line_65 : decode cX1_line 65 = .ok (.getfield 155, 3) := dk_180 0 155 (dk_at dksX1_line_2 19 rfl rfl)
theorem dX1_line_68 : decode cX1_line 68 = .ok (.iconst 0, 1) := dk_3 (dk_at dksX1_line_2 22 rfl rfl)
theorem dX1_line_69 : decode cX1_line 69 = .ok (.dup2, 1) := dk_92 (dk_at dksX1_line_2 23 rfl rfl)
theorem dX1_line_70 : decode cX1_line 70 = .ok (.iaload, 1) := dk_46 (dk_at dksX1_line_3 0 rfl rfl)
theorem dX1_line_71 : decode cX1_line 71 = .ok (.iconst 1, 1) := dk_4 (dk_at dksX1_line_3 1 rfl rfl)
theorem dX1_line_72 : decode cX1_line 72 = .ok (.iadd, 1) := dk_96 (dk_at dksX1_line_3 2 rfl rfl)
theorem dX1_line_73 : decode cX1_line 73 = .ok (.iastore, 1) := dk_79 (dk_at dksX1_line_3 3 rfl rfl)
theorem dX1_line_74 : decode cX1_line 74 = .ok (.aload_n 2, 1) := dk_44 (dk_at dksX1_line_3 4 rfl rfl)
theorem dX1_line_75 : decode cX1_line 75 = .ok (.getfield 158, 3) := dk_180 0 158 (dk_at dksX1_line_3 5 rfl rfl)
theorem dX1_line_78 : decode cX1_line 78 = .ok (.ireturn, 1) := dk_172 (dk_at dksX1_line_3 8 rfl rfl)
theorem dX1_line_79 : decode cX1_line 79 = .ok (.aload_n 0, 1) := dk_42 (dk_at dksX1_line_3 9 rfl rfl)
theorem dX1_line_80 : decode cX1_line 80 = .ok (.getfield 30, 3) := dk_180 0 30 (dk_at dksX1_line_3 10 rfl rfl)
theorem dX1_line_83 : decode cX1_line 83 = .ok (.aload_n 0, 1) := dk_42 (dk_at dksX1_line_3 13 rfl rfl)
theorem dX1_line_84 : decode cX1_line 84 = .ok (.getfield 10, 3) := dk_180 0 10 (dk_at dksX1_line_3 14 rfl rfl)
theorem dX1_line_87 : decode cX1_line 87 = .ok (.invokevirtual 114, 3) := dk_182 0 114 (dk_at dksX1_line_3 17 rfl rfl)
theorem dX1_line_90 : decode cX1_line 90 = .ok (.aload_n 0, 1) := dk_42 (dk_at dksX1_line_3 20 rfl rfl)
theorem dX1_line_91 : decode cX1_line 91 = .ok (.getfield 19, 3) := dk_180 0 19 (dk_at dksX1_line_3 21 rfl rfl)
theorem dX1_line_94 : decode cX1_line 94 = .ok (.iconst 0, 1) := dk_3 (dk_at dksX1_line_4 0 rfl rfl)
theorem dX1_line_95 : decode cX1_line 95 = .ok (.putfield 161, 3) := dk_181 0 161 (dk_at dksX1_line_4 1 rfl rfl)
theorem dX1_line_98 : decode cX1_line 98 = .ok (.aload_n 0, 1) := dk_42 (dk_at dksX1_line_4 4 rfl rfl)
theorem dX1_line_99 : decode cX1_line 99 = .ok (.getfield 19, 3) := dk_180 0 19 (dk_at dksX1_line_4 5 rfl rfl)
theorem dX1_line_102 : decode cX1_line 102 = .ok (.iconst 0, 1) := dk_3 (dk_at dksX1_line_4 8 rfl rfl)
theorem dX1_line_103 : decode cX1_line 103 = .ok (.putfield 164, 3) := dk_181 0 164 (dk_at dksX1_line_4 9 rfl rfl)
theorem dX1_line_106 : decode cX1_line 106 = .ok (.aload_n 0, 1) := dk_42 (dk_at dksX1_line_4 12 rfl rfl)
theorem dX1_line_107 : decode cX1_line 107 = .ok (.iconst 0, 1) := dk_3 (dk_at dksX1_line_4 13 rfl rfl)
theorem dX1_line_108 : decode cX1_line 108 = .ok (.putfield 167, 3) := dk_181 0 167 (dk_at dksX1_line_4 14 rfl rfl)
theorem dX1_line_111 : decode cX1_line 111 = .ok (.iconst 0, 1) := dk_3 (dk_at dksX1_line_4 17 rfl rfl)
theorem dX1_line_112 : decode cX1_line 112 = .ok (.ireturn, 1) := dk_172 (dk_at dksX1_line_4 18 rfl rfl)
abbrev cX1_right : ByteArray := prog_1_method_4_code
def yX1_right : MethodName := ⟨RX1, "right", "(Z)V"⟩
def dkwX1_right_0 : List UInt8 := [26, 154, 0, 11, 187, 0, 125, 89, 183, 0, 127, 191, 177]
abbrev dktX1_right_0 : List UInt8 := dkwX1_right_0 ++ []
theorem dksX1_right_0 : cX1_right.data.toList.drop 0 = dktX1_right_0 := by decide +kernel
theorem dX1_right_0 : decode cX1_right 0 = .ok (.iload_n 0, 1) := dk_26 (dk_at dksX1_right_0 0 rfl rfl)
theorem dX1_right_1 : decode cX1_right 1 = .ok (.ifCond .ne 11, 3) := dk_154 0 11 (dk_at dksX1_right_0 1 rfl rfl)
theorem dX1_right_4 : decode cX1_right 4 = .ok (.new 125, 3) := dk_187 0 125 (dk_at dksX1_right_0 4 rfl rfl)
theorem dX1_right_7 : decode cX1_right 7 = .ok (.dup, 1) := dk_89 (dk_at dksX1_right_0 7 rfl rfl)
theorem dX1_right_8 : decode cX1_right 8 = .ok (.invokespecial 127, 3) := dk_183 0 127 (dk_at dksX1_right_0 8 rfl rfl)
theorem dX1_right_11 : decode cX1_right 11 = .ok (.athrow, 1) := dk_191 (dk_at dksX1_right_0 11 rfl rfl)
theorem dX1_right_12 : decode cX1_right 12 = .ok (.return_, 1) := dk_177 (dk_at dksX1_right_0 12 rfl rfl)
abbrev cX1_count : ByteArray := prog_1_method_12_code
def yX1_count : MethodName := ⟨RX1, "count", "(I)I"⟩
def dkwX1_count_9 : List UInt8 := [180, 0, 164, 172, 42, 180, 0, 131, 172, 42, 180, 0, 19, 180, 0, 155, 27, 16, 20, 100, 46, 172]
abbrev dktX1_count_9 : List UInt8 := dkwX1_count_9 ++ []
def dkwX1_count_8 : List UInt8 := [42, 180, 0, 30, 180, 0, 237, 182, 0, 240, 172, 42, 180, 0, 19, 180, 0, 161, 172, 42, 180, 0, 19]
abbrev dktX1_count_8 : List UInt8 := dkwX1_count_8 ++ dktX1_count_9
def dkwX1_count_7 : List UInt8 := [184, 0, 227, 172, 42, 180, 0, 30, 180, 0, 231, 172, 42, 180, 0, 30, 180, 0, 234, 172, 42, 180, 0, 30]
abbrev dktX1_count_7 : List UInt8 := dkwX1_count_7 ++ dktX1_count_8
def dkwX1_count_6 : List UInt8 := [180, 0, 218, 172, 42, 180, 0, 30, 180, 0, 221, 172, 42, 180, 0, 30, 42, 180, 0, 10, 180, 0, 224]
abbrev dktX1_count_6 : List UInt8 := dkwX1_count_6 ++ dktX1_count_7
def dkwX1_count_5 : List UInt8 := [42, 180, 0, 30, 42, 180, 0, 10, 182, 0, 214, 172, 42, 180, 0, 30, 180, 0, 171, 172, 42, 180, 0, 30]
abbrev dktX1_count_5 : List UInt8 := dkwX1_count_5 ++ dktX1_count_6
def dkwX1_count_4 : List UInt8 := [42, 180, 0, 30, 180, 0, 205, 172, 42, 180, 0, 30, 180, 0, 208, 172, 42, 180, 0, 30, 180, 0, 211, 172]
abbrev dktX1_count_4 : List UInt8 := dkwX1_count_4 ++ dktX1_count_5
def dkwX1_count_3 : List UInt8 := [42, 180, 0, 30, 180, 0, 196, 172, 42, 180, 0, 30, 180, 0, 199, 172, 42, 180, 0, 30, 180, 0, 202, 172]
abbrev dktX1_count_3 : List UInt8 := dkwX1_count_3 ++ dktX1_count_4
def dkwX1_count_2 : List UInt8 := [42, 180, 0, 30, 180, 0, 187, 172, 42, 180, 0, 30, 180, 0, 190, 172, 42, 180, 0, 30, 180, 0, 193, 172]
abbrev dktX1_count_2 : List UInt8 := dkwX1_count_2 ++ dktX1_count_3
def dkwX1_count_1 : List UInt8 := [170, 0, 0, 1, 12, 0, 0, 0, 0, 0, 0, 0, 19, 0, 0, 0, 93, 0, 0, 0, 101, 0, 0, 0, 109, 0, 0, 0, 117, 0, 0, 0, 125, 0, 0, 0, 133, 0, 0, 0, 141, 0, 0, 0, 149, 0, 0, 0, 157, 0, 0, 0, 165, 0, 0, 0, 177, 0, 0, 0, 185, 0, 0, 0, 193, 0, 0, 0, 201, 0, 0, 0, 216, 0, 0, 0, 224, 0, 0, 0, 232, 0, 0, 0, 247, 0, 0, 0, 255, 0, 0, 1, 7]
abbrev dktX1_count_1 : List UInt8 := dkwX1_count_1 ++ dktX1_count_2
def dkwX1_count_0 : List UInt8 := [27, 3, 16, 22, 184, 0, 180, 184, 0, 184, 27]
abbrev dktX1_count_0 : List UInt8 := dkwX1_count_0 ++ dktX1_count_1
theorem dksX1_count_0 : cX1_count.data.toList.drop 0 = dktX1_count_0 := by decide +kernel
theorem dksX1_count_1 : cX1_count.data.toList.drop 11 = dktX1_count_1 := dk_seg dksX1_count_0 11 rfl rfl
theorem dksX1_count_2 : cX1_count.data.toList.drop 104 = dktX1_count_2 := dk_seg dksX1_count_1 93 rfl rfl
theorem dksX1_count_3 : cX1_count.data.toList.drop 128 = dktX1_count_3 := dk_seg dksX1_count_2 24 rfl rfl
theorem dksX1_count_4 : cX1_count.data.toList.drop 152 = dktX1_count_4 := dk_seg dksX1_count_3 24 rfl rfl
theorem dksX1_count_5 : cX1_count.data.toList.drop 176 = dktX1_count_5 := dk_seg dksX1_count_4 24 rfl rfl
theorem dksX1_count_6 : cX1_count.data.toList.drop 200 = dktX1_count_6 := dk_seg dksX1_count_5 24 rfl rfl
theorem dksX1_count_7 : cX1_count.data.toList.drop 223 = dktX1_count_7 := dk_seg dksX1_count_6 23 rfl rfl
theorem dksX1_count_8 : cX1_count.data.toList.drop 247 = dktX1_count_8 := dk_seg dksX1_count_7 24 rfl rfl
theorem dksX1_count_9 : cX1_count.data.toList.drop 270 = dktX1_count_9 := dk_seg dksX1_count_8 23 rfl rfl
theorem dX1_count_0 : decode cX1_count 0 = .ok (.iload_n 1, 1) := dk_27 (dk_at dksX1_count_0 0 rfl rfl)
theorem dX1_count_1 : decode cX1_count 1 = .ok (.iconst 0, 1) := dk_3 (dk_at dksX1_count_0 1 rfl rfl)
theorem dX1_count_2 : decode cX1_count 2 = .ok (.bipush 22, 2) := dk_16 22 (dk_at dksX1_count_0 2 rfl rfl)
theorem dX1_count_4 : decode cX1_count 4 = .ok (.invokestatic 180, 3) := dk_184 0 180 (dk_at dksX1_count_0 4 rfl rfl)
theorem dX1_count_7 : decode cX1_count 7 = .ok (.invokestatic 184, 3) := dk_184 0 184 (dk_at dksX1_count_0 7 rfl rfl)
theorem dX1_count_10 : decode cX1_count 10 = .ok (.iload_n 1, 1) := dk_27 (dk_at dksX1_count_0 10 rfl rfl)
theorem dX1_count_11 : decode cX1_count 11 = .ok (.tableswitch 268 0 19 #[93, 101, 109, 117, 125, 133, 141, 149, 157, 165, 177, 185, 193, 201, 216, 224, 232, 247, 255, 263], 93) := by decide +kernel
theorem dX1_count_104 : decode cX1_count 104 = .ok (.aload_n 0, 1) := dk_42 (dk_at dksX1_count_2 0 rfl rfl)
theorem dX1_count_105 : decode cX1_count 105 = .ok (.getfield 30, 3) := dk_180 0 30 (dk_at dksX1_count_2 1 rfl rfl)
theorem dX1_count_108 : decode cX1_count 108 = .ok (.getfield 187, 3) := dk_180 0 187 (dk_at dksX1_count_2 4 rfl rfl)
theorem dX1_count_111 : decode cX1_count 111 = .ok (.ireturn, 1) := dk_172 (dk_at dksX1_count_2 7 rfl rfl)
theorem dX1_count_112 : decode cX1_count 112 = .ok (.aload_n 0, 1) := dk_42 (dk_at dksX1_count_2 8 rfl rfl)
theorem dX1_count_113 : decode cX1_count 113 = .ok (.getfield 30, 3) := dk_180 0 30 (dk_at dksX1_count_2 9 rfl rfl)
theorem dX1_count_116 : decode cX1_count 116 = .ok (.getfield 190, 3) := dk_180 0 190 (dk_at dksX1_count_2 12 rfl rfl)
theorem dX1_count_119 : decode cX1_count 119 = .ok (.ireturn, 1) := dk_172 (dk_at dksX1_count_2 15 rfl rfl)
theorem dX1_count_120 : decode cX1_count 120 = .ok (.aload_n 0, 1) := dk_42 (dk_at dksX1_count_2 16 rfl rfl)
theorem dX1_count_121 : decode cX1_count 121 = .ok (.getfield 30, 3) := dk_180 0 30 (dk_at dksX1_count_2 17 rfl rfl)
theorem dX1_count_124 : decode cX1_count 124 = .ok (.getfield 193, 3) := dk_180 0 193 (dk_at dksX1_count_2 20 rfl rfl)
theorem dX1_count_127 : decode cX1_count 127 = .ok (.ireturn, 1) := dk_172 (dk_at dksX1_count_2 23 rfl rfl)
theorem dX1_count_128 : decode cX1_count 128 = .ok (.aload_n 0, 1) := dk_42 (dk_at dksX1_count_3 0 rfl rfl)
theorem dX1_count_129 : decode cX1_count 129 = .ok (.getfield 30, 3) := dk_180 0 30 (dk_at dksX1_count_3 1 rfl rfl)
theorem dX1_count_132 : decode cX1_count 132 = .ok (.getfield 196, 3) := dk_180 0 196 (dk_at dksX1_count_3 4 rfl rfl)
theorem dX1_count_135 : decode cX1_count 135 = .ok (.ireturn, 1) := dk_172 (dk_at dksX1_count_3 7 rfl rfl)
theorem dX1_count_136 : decode cX1_count 136 = .ok (.aload_n 0, 1) := dk_42 (dk_at dksX1_count_3 8 rfl rfl)
theorem dX1_count_137 : decode cX1_count 137 = .ok (.getfield 30, 3) := dk_180 0 30 (dk_at dksX1_count_3 9 rfl rfl)
theorem dX1_count_140 : decode cX1_count 140 = .ok (.getfield 199, 3) := dk_180 0 199 (dk_at dksX1_count_3 12 rfl rfl)
theorem dX1_count_143 : decode cX1_count 143 = .ok (.ireturn, 1) := dk_172 (dk_at dksX1_count_3 15 rfl rfl)
theorem dX1_count_144 : decode cX1_count 144 = .ok (.aload_n 0, 1) := dk_42 (dk_at dksX1_count_3 16 rfl rfl)
theorem dX1_count_145 : decode cX1_count 145 = .ok (.getfield 30, 3) := dk_180 0 30 (dk_at dksX1_count_3 17 rfl rfl)
theorem dX1_count_148 : decode cX1_count 148 = .ok (.getfield 202, 3) := dk_180 0 202 (dk_at dksX1_count_3 20 rfl rfl)
theorem dX1_count_151 : decode cX1_count 151 = .ok (.ireturn, 1) := dk_172 (dk_at dksX1_count_3 23 rfl rfl)
theorem dX1_count_152 : decode cX1_count 152 = .ok (.aload_n 0, 1) := dk_42 (dk_at dksX1_count_4 0 rfl rfl)
theorem dX1_count_153 : decode cX1_count 153 = .ok (.getfield 30, 3) := dk_180 0 30 (dk_at dksX1_count_4 1 rfl rfl)
theorem dX1_count_156 : decode cX1_count 156 = .ok (.getfield 205, 3) := dk_180 0 205 (dk_at dksX1_count_4 4 rfl rfl)
theorem dX1_count_159 : decode cX1_count 159 = .ok (.ireturn, 1) := dk_172 (dk_at dksX1_count_4 7 rfl rfl)
theorem dX1_count_160 : decode cX1_count 160 = .ok (.aload_n 0, 1) := dk_42 (dk_at dksX1_count_4 8 rfl rfl)
theorem dX1_count_161 : decode cX1_count 161 = .ok (.getfield 30, 3) := dk_180 0 30 (dk_at dksX1_count_4 9 rfl rfl)
theorem dX1_count_164 : decode cX1_count 164 = .ok (.getfield 208, 3) := dk_180 0 208 (dk_at dksX1_count_4 12 rfl rfl)
theorem dX1_count_167 : decode cX1_count 167 = .ok (.ireturn, 1) := dk_172 (dk_at dksX1_count_4 15 rfl rfl)
theorem dX1_count_168 : decode cX1_count 168 = .ok (.aload_n 0, 1) := dk_42 (dk_at dksX1_count_4 16 rfl rfl)
theorem dX1_count_169 : decode cX1_count 169 = .ok (.getfield 30, 3) := dk_180 0 30 (dk_at dksX1_count_4 17 rfl rfl)
theorem dX1_count_172 : decode cX1_count 172 = .ok (.getfield 211, 3) := dk_180 0 211 (dk_at dksX1_count_4 20 rfl rfl)
theorem dX1_count_175 : decode cX1_count 175 = .ok (.ireturn, 1) := dk_172 (dk_at dksX1_count_4 23 rfl rfl)
theorem dX1_count_176 : decode cX1_count 176 = .ok (.aload_n 0, 1) := dk_42 (dk_at dksX1_count_5 0 rfl rfl)
theorem dX1_count_177 : decode cX1_count 177 = .ok (.getfield 30, 3) := dk_180 0 30 (dk_at dksX1_count_5 1 rfl rfl)
theorem dX1_count_180 : decode cX1_count 180 = .ok (.aload_n 0, 1) := dk_42 (dk_at dksX1_count_5 4 rfl rfl)
theorem dX1_count_181 : decode cX1_count 181 = .ok (.getfield 10, 3) := dk_180 0 10 (dk_at dksX1_count_5 5 rfl rfl)
theorem dX1_count_184 : decode cX1_count 184 = .ok (.invokevirtual 214, 3) := dk_182 0 214 (dk_at dksX1_count_5 8 rfl rfl)
theorem dX1_count_187 : decode cX1_count 187 = .ok (.ireturn, 1) := dk_172 (dk_at dksX1_count_5 11 rfl rfl)
theorem dX1_count_188 : decode cX1_count 188 = .ok (.aload_n 0, 1) := dk_42 (dk_at dksX1_count_5 12 rfl rfl)
theorem dX1_count_189 : decode cX1_count 189 = .ok (.getfield 30, 3) := dk_180 0 30 (dk_at dksX1_count_5 13 rfl rfl)
theorem dX1_count_192 : decode cX1_count 192 = .ok (.getfield 171, 3) := dk_180 0 171 (dk_at dksX1_count_5 16 rfl rfl)
theorem dX1_count_195 : decode cX1_count 195 = .ok (.ireturn, 1) := dk_172 (dk_at dksX1_count_5 19 rfl rfl)
theorem dX1_count_196 : decode cX1_count 196 = .ok (.aload_n 0, 1) := dk_42 (dk_at dksX1_count_5 20 rfl rfl)
theorem dX1_count_197 : decode cX1_count 197 = .ok (.getfield 30, 3) := dk_180 0 30 (dk_at dksX1_count_5 21 rfl rfl)
theorem dX1_count_200 : decode cX1_count 200 = .ok (.getfield 218, 3) := dk_180 0 218 (dk_at dksX1_count_6 0 rfl rfl)
theorem dX1_count_203 : decode cX1_count 203 = .ok (.ireturn, 1) := dk_172 (dk_at dksX1_count_6 3 rfl rfl)
theorem dX1_count_204 : decode cX1_count 204 = .ok (.aload_n 0, 1) := dk_42 (dk_at dksX1_count_6 4 rfl rfl)
theorem dX1_count_205 : decode cX1_count 205 = .ok (.getfield 30, 3) := dk_180 0 30 (dk_at dksX1_count_6 5 rfl rfl)
theorem dX1_count_208 : decode cX1_count 208 = .ok (.getfield 221, 3) := dk_180 0 221 (dk_at dksX1_count_6 8 rfl rfl)
theorem dX1_count_211 : decode cX1_count 211 = .ok (.ireturn, 1) := dk_172 (dk_at dksX1_count_6 11 rfl rfl)
theorem dX1_count_212 : decode cX1_count 212 = .ok (.aload_n 0, 1) := dk_42 (dk_at dksX1_count_6 12 rfl rfl)
theorem dX1_count_213 : decode cX1_count 213 = .ok (.getfield 30, 3) := dk_180 0 30 (dk_at dksX1_count_6 13 rfl rfl)
theorem dX1_count_216 : decode cX1_count 216 = .ok (.aload_n 0, 1) := dk_42 (dk_at dksX1_count_6 16 rfl rfl)
theorem dX1_count_217 : decode cX1_count 217 = .ok (.getfield 10, 3) := dk_180 0 10 (dk_at dksX1_count_6 17 rfl rfl)
theorem dX1_count_220 : decode cX1_count 220 = .ok (.getfield 224, 3) := dk_180 0 224 (dk_at dksX1_count_6 20 rfl rfl)
theorem dX1_count_223 : decode cX1_count 223 = .ok (.invokestatic 227, 3) := dk_184 0 227 (dk_at dksX1_count_7 0 rfl rfl)
theorem dX1_count_226 : decode cX1_count 226 = .ok (.ireturn, 1) := dk_172 (dk_at dksX1_count_7 3 rfl rfl)
theorem dX1_count_227 : decode cX1_count 227 = .ok (.aload_n 0, 1) := dk_42 (dk_at dksX1_count_7 4 rfl rfl)
theorem dX1_count_228 : decode cX1_count 228 = .ok (.getfield 30, 3) := dk_180 0 30 (dk_at dksX1_count_7 5 rfl rfl)
theorem dX1_count_231 : decode cX1_count 231 = .ok (.getfield 231, 3) := dk_180 0 231 (dk_at dksX1_count_7 8 rfl rfl)
theorem dX1_count_234 : decode cX1_count 234 = .ok (.ireturn, 1) := dk_172 (dk_at dksX1_count_7 11 rfl rfl)
theorem dX1_count_235 : decode cX1_count 235 = .ok (.aload_n 0, 1) := dk_42 (dk_at dksX1_count_7 12 rfl rfl)
theorem dX1_count_236 : decode cX1_count 236 = .ok (.getfield 30, 3) := dk_180 0 30 (dk_at dksX1_count_7 13 rfl rfl)
theorem dX1_count_239 : decode cX1_count 239 = .ok (.getfield 234, 3) := dk_180 0 234 (dk_at dksX1_count_7 16 rfl rfl)
theorem dX1_count_242 : decode cX1_count 242 = .ok (.ireturn, 1) := dk_172 (dk_at dksX1_count_7 19 rfl rfl)
theorem dX1_count_243 : decode cX1_count 243 = .ok (.aload_n 0, 1) := dk_42 (dk_at dksX1_count_7 20 rfl rfl)
theorem dX1_count_244 : decode cX1_count 244 = .ok (.getfield 30, 3) := dk_180 0 30 (dk_at dksX1_count_7 21 rfl rfl)
theorem dX1_count_247 : decode cX1_count 247 = .ok (.aload_n 0, 1) := dk_42 (dk_at dksX1_count_8 0 rfl rfl)
theorem dX1_count_248 : decode cX1_count 248 = .ok (.getfield 30, 3) := dk_180 0 30 (dk_at dksX1_count_8 1 rfl rfl)
theorem dX1_count_251 : decode cX1_count 251 = .ok (.getfield 237, 3) := dk_180 0 237 (dk_at dksX1_count_8 4 rfl rfl)
theorem dX1_count_254 : decode cX1_count 254 = .ok (.invokevirtual 240, 3) := dk_182 0 240 (dk_at dksX1_count_8 7 rfl rfl)
theorem dX1_count_257 : decode cX1_count 257 = .ok (.ireturn, 1) := dk_172 (dk_at dksX1_count_8 10 rfl rfl)
theorem dX1_count_258 : decode cX1_count 258 = .ok (.aload_n 0, 1) := dk_42 (dk_at dksX1_count_8 11 rfl rfl)
theorem dX1_count_259 : decode cX1_count 259 = .ok (.getfield 19, 3) := dk_180 0 19 (dk_at dksX1_count_8 12 rfl rfl)
theorem dX1_count_262 : decode cX1_count 262 = .ok (.getfield 161, 3) := dk_180 0 161 (dk_at dksX1_count_8 15 rfl rfl)
theorem dX1_count_265 : decode cX1_count 265 = .ok (.ireturn, 1) := dk_172 (dk_at dksX1_count_8 18 rfl rfl)
theorem dX1_count_266 : decode cX1_count 266 = .ok (.aload_n 0, 1) := dk_42 (dk_at dksX1_count_8 19 rfl rfl)
theorem dX1_count_267 : decode cX1_count 267 = .ok (.getfield 19, 3) := dk_180 0 19 (dk_at dksX1_count_8 20 rfl rfl)
theorem dX1_count_270 : decode cX1_count 270 = .ok (.getfield 164, 3) := dk_180 0 164 (dk_at dksX1_count_9 0 rfl rfl)
theorem dX1_count_273 : decode cX1_count 273 = .ok (.ireturn, 1) := dk_172 (dk_at dksX1_count_9 3 rfl rfl)
theorem dX1_count_274 : decode cX1_count 274 = .ok (.aload_n 0, 1) := dk_42 (dk_at dksX1_count_9 4 rfl rfl)
theorem dX1_count_275 : decode cX1_count 275 = .ok (.getfield 131, 3) := dk_180 0 131 (dk_at dksX1_count_9 5 rfl rfl)
theorem dX1_count_278 : decode cX1_count 278 = .ok (.ireturn, 1) := dk_172 (dk_at dksX1_count_9 8 rfl rfl)
theorem dX1_count_279 : decode cX1_count 279 = .ok (.aload_n 0, 1) := dk_42 (dk_at dksX1_count_9 9 rfl rfl)
theorem dX1_count_280 : decode cX1_count 280 = .ok (.getfield 19, 3) := dk_180 0 19 (dk_at dksX1_count_9 10 rfl rfl)
theorem dX1_count_283 : decode cX1_count 283 = .ok (.getfield 155, 3) := dk_180 0 155 (dk_at dksX1_count_9 13 rfl rfl)
theorem dX1_count_286 : decode cX1_count 286 = .ok (.iload_n 1, 1) := dk_27 (dk_at dksX1_count_9 16 rfl rfl)
theorem dX1_count_287 : decode cX1_count 287 = .ok (.bipush 20, 2) := dk_16 20 (dk_at dksX1_count_9 17 rfl rfl)
theorem dX1_count_289 : decode cX1_count 289 = .ok (.isub, 1) := dk_100 (dk_at dksX1_count_9 19 rfl rfl)
theorem dX1_count_290 : decode cX1_count 290 = .ok (.iaload, 1) := dk_46 (dk_at dksX1_count_9 20 rfl rfl)
theorem dX1_count_291 : decode cX1_count 291 = .ok (.ireturn, 1) := dk_172 (dk_at dksX1_count_9 21 rfl rfl)
abbrev cX1_there : ByteArray := prog_1_method_5_code
def yX1_there : MethodName := ⟨RX1, "there", "(Z)V"⟩
def dkwX1_there_0 : List UInt8 := [26, 154, 0, 11, 187, 0, 128, 89, 183, 0, 130, 191, 177]
abbrev dktX1_there_0 : List UInt8 := dkwX1_there_0 ++ []
theorem dksX1_there_0 : cX1_there.data.toList.drop 0 = dktX1_there_0 := by decide +kernel
theorem dX1_there_0 : decode cX1_there 0 = .ok (.iload_n 0, 1) := dk_26 (dk_at dksX1_there_0 0 rfl rfl)
theorem dX1_there_1 : decode cX1_there 1 = .ok (.ifCond .ne 11, 3) := dk_154 0 11 (dk_at dksX1_there_0 1 rfl rfl)
theorem dX1_there_4 : decode cX1_there 4 = .ok (.new 128, 3) := dk_187 0 128 (dk_at dksX1_there_0 4 rfl rfl)
theorem dX1_there_7 : decode cX1_there 7 = .ok (.dup, 1) := dk_89 (dk_at dksX1_there_0 7 rfl rfl)
theorem dX1_there_8 : decode cX1_there 8 = .ok (.invokespecial 130, 3) := dk_183 0 130 (dk_at dksX1_there_0 8 rfl rfl)
theorem dX1_there_11 : decode cX1_there 11 = .ok (.athrow, 1) := dk_191 (dk_at dksX1_there_0 11 rfl rfl)
theorem dX1_there_12 : decode cX1_there 12 = .ok (.return_, 1) := dk_177 (dk_at dksX1_there_0 12 rfl rfl)
abbrev cX1_regained : ByteArray := prog_1_method_11_code
def yX1_regained : MethodName := ⟨RX1, "regained", "(LCircuitCells$State;I)I"⟩
def dkwX1_regained_1 : List UInt8 := [104, 42, 180, 0, 177, 104, 42, 180, 0, 174, 108, 17, 3, 232, 100, 172]
abbrev dktX1_regained_1 : List UInt8 := dkwX1_regained_1 ++ []
def dkwX1_regained_0 : List UInt8 := [42, 180, 0, 171, 153, 0, 10, 42, 180, 0, 174, 154, 0, 9, 17, 39, 16, 167, 0, 22, 17, 3, 232, 27]
abbrev dktX1_regained_0 : List UInt8 := dkwX1_regained_0 ++ dktX1_regained_1
theorem dksX1_regained_0 : cX1_regained.data.toList.drop 0 = dktX1_regained_0 := by decide +kernel
theorem dksX1_regained_1 : cX1_regained.data.toList.drop 24 = dktX1_regained_1 := dk_seg dksX1_regained_0 24 rfl rfl
theorem dX1_regained_0 : decode cX1_regained 0 = .ok (.aload_n 0, 1) := dk_42 (dk_at dksX1_regained_0 0 rfl rfl)
theorem dX1_regained_1 : decode cX1_regained 1 = .ok (.getfield 171, 3) := dk_180 0 171 (dk_at dksX1_regained_0 1 rfl rfl)
theorem dX1_regained_4 : decode cX1_regained 4 = .ok (.ifCond .eq 10, 3) := dk_153 0 10 (dk_at dksX1_regained_0 4 rfl rfl)
theorem dX1_regained_7 : decode cX1_regained 7 = .ok (.aload_n 0, 1) := dk_42 (dk_at dksX1_regained_0 7 rfl rfl)
theorem dX1_regained_8 : decode cX1_regained 8 = .ok (.getfield 174, 3) := dk_180 0 174 (dk_at dksX1_regained_0 8 rfl rfl)
theorem dX1_regained_11 : decode cX1_regained 11 = .ok (.ifCond .ne 9, 3) := dk_154 0 9 (dk_at dksX1_regained_0 11 rfl rfl)
theorem dX1_regained_14 : decode cX1_regained 14 = .ok (.sipush 10000, 3) := dk_17 39 16 (dk_at dksX1_regained_0 14 rfl rfl)
theorem dX1_regained_17 : decode cX1_regained 17 = .ok (.goto 22, 3) := dk_167 0 22 (dk_at dksX1_regained_0 17 rfl rfl)
theorem dX1_regained_20 : decode cX1_regained 20 = .ok (.sipush 1000, 3) := dk_17 3 232 (dk_at dksX1_regained_0 20 rfl rfl)
theorem dX1_regained_23 : decode cX1_regained 23 = .ok (.iload_n 1, 1) := dk_27 (dk_at dksX1_regained_0 23 rfl rfl)
theorem dX1_regained_24 : decode cX1_regained 24 = .ok (.imul, 1) := dk_104 (dk_at dksX1_regained_1 0 rfl rfl)
theorem dX1_regained_25 : decode cX1_regained 25 = .ok (.aload_n 0, 1) := dk_42 (dk_at dksX1_regained_1 1 rfl rfl)
theorem dX1_regained_26 : decode cX1_regained 26 = .ok (.getfield 177, 3) := dk_180 0 177 (dk_at dksX1_regained_1 2 rfl rfl)
theorem dX1_regained_29 : decode cX1_regained 29 = .ok (.imul, 1) := dk_104 (dk_at dksX1_regained_1 5 rfl rfl)
theorem dX1_regained_30 : decode cX1_regained 30 = .ok (.aload_n 0, 1) := dk_42 (dk_at dksX1_regained_1 6 rfl rfl)
theorem dX1_regained_31 : decode cX1_regained 31 = .ok (.getfield 174, 3) := dk_180 0 174 (dk_at dksX1_regained_1 7 rfl rfl)
theorem dX1_regained_34 : decode cX1_regained 34 = .ok (.idiv, 1) := dk_108 (dk_at dksX1_regained_1 10 rfl rfl)
theorem dX1_regained_35 : decode cX1_regained 35 = .ok (.sipush 1000, 3) := dk_17 3 232 (dk_at dksX1_regained_1 11 rfl rfl)
theorem dX1_regained_38 : decode cX1_regained 38 = .ok (.isub, 1) := dk_100 (dk_at dksX1_regained_1 14 rfl rfl)
theorem dX1_regained_39 : decode cX1_regained 39 = .ok (.ireturn, 1) := dk_172 (dk_at dksX1_regained_1 15 rfl rfl)
abbrev cX1_set : ByteArray := prog_1_method_13_code
def yX1_set : MethodName := ⟨RX1, "set", "(I)I"⟩
def dkwX1_set_7 : List UInt8 := [42, 180, 0, 10, 180, 0, 224, 104, 112, 172, 42, 180, 0, 30, 180, 1, 30, 172]
abbrev dktX1_set_7 : List UInt8 := dkwX1_set_7 ++ []
def dkwX1_set_6 : List UInt8 := [180, 0, 30, 180, 1, 23, 172, 42, 180, 0, 30, 180, 1, 26, 172, 42, 180, 0, 30, 180, 1, 29, 16, 64]
abbrev dktX1_set_6 : List UInt8 := dkwX1_set_6 ++ dktX1_set_7
def dkwX1_set_5 : List UInt8 := [180, 0, 30, 180, 1, 14, 172, 42, 180, 0, 30, 180, 1, 17, 172, 42, 180, 0, 30, 180, 1, 20, 172, 42]
abbrev dktX1_set_5 : List UInt8 := dkwX1_set_5 ++ dktX1_set_6
def dkwX1_set_4 : List UInt8 := [42, 180, 0, 10, 180, 0, 118, 172, 4, 42, 180, 0, 10, 180, 1, 2, 182, 1, 5, 184, 1, 8, 172, 42]
abbrev dktX1_set_4 : List UInt8 := dkwX1_set_4 ++ dktX1_set_5
def dkwX1_set_3 : List UInt8 := [42, 180, 0, 30, 180, 0, 249, 172, 42, 180, 0, 10, 180, 0, 252, 172, 42, 180, 0, 30, 180, 0, 255, 172]
abbrev dktX1_set_3 : List UInt8 := dkwX1_set_3 ++ dktX1_set_4
def dkwX1_set_2 : List UInt8 := [42, 180, 0, 10, 180, 0, 224, 172, 42, 180, 0, 30, 180, 0, 243, 172, 42, 180, 0, 30, 180, 0, 246, 172]
abbrev dktX1_set_2 : List UInt8 := dkwX1_set_2 ++ dktX1_set_3
def dkwX1_set_1 : List UInt8 := [170, 0, 0, 0, 199, 0, 0, 0, 0, 0, 0, 0, 13, 0, 0, 0, 69, 0, 0, 0, 77, 0, 0, 0, 85, 0, 0, 0, 93, 0, 0, 0, 101, 0, 0, 0, 109, 0, 0, 0, 117, 0, 0, 0, 125, 0, 0, 0, 140, 0, 0, 0, 148, 0, 0, 0, 156, 0, 0, 0, 164, 0, 0, 0, 172, 0, 0, 0, 180]
abbrev dktX1_set_1 : List UInt8 := dkwX1_set_1 ++ dktX1_set_2
def dkwX1_set_0 : List UInt8 := [27, 3, 16, 14, 184, 0, 180, 184, 0, 184, 27]
abbrev dktX1_set_0 : List UInt8 := dkwX1_set_0 ++ dktX1_set_1
theorem dksX1_set_0 : cX1_set.data.toList.drop 0 = dktX1_set_0 := by decide +kernel
theorem dksX1_set_1 : cX1_set.data.toList.drop 11 = dktX1_set_1 := dk_seg dksX1_set_0 11 rfl rfl
theorem dksX1_set_2 : cX1_set.data.toList.drop 80 = dktX1_set_2 := dk_seg dksX1_set_1 69 rfl rfl
theorem dksX1_set_3 : cX1_set.data.toList.drop 104 = dktX1_set_3 := dk_seg dksX1_set_2 24 rfl rfl
theorem dksX1_set_4 : cX1_set.data.toList.drop 128 = dktX1_set_4 := dk_seg dksX1_set_3 24 rfl rfl
theorem dksX1_set_5 : cX1_set.data.toList.drop 152 = dktX1_set_5 := dk_seg dksX1_set_4 24 rfl rfl
theorem dksX1_set_6 : cX1_set.data.toList.drop 176 = dktX1_set_6 := dk_seg dksX1_set_5 24 rfl rfl
theorem dksX1_set_7 : cX1_set.data.toList.drop 200 = dktX1_set_7 := dk_seg dksX1_set_6 24 rfl rfl
theorem dX1_set_0 : decode cX1_set 0 = .ok (.iload_n 1, 1) := dk_27 (dk_at dksX1_set_0 0 rfl rfl)
theorem dX1_set_1 : decode cX1_set 1 = .ok (.iconst 0, 1) := dk_3 (dk_at dksX1_set_0 1 rfl rfl)
theorem dX1_set_2 : decode cX1_set 2 = .ok (.bipush 14, 2) := dk_16 14 (dk_at dksX1_set_0 2 rfl rfl)
theorem dX1_set_4 : decode cX1_set 4 = .ok (.invokestatic 180, 3) := dk_184 0 180 (dk_at dksX1_set_0 4 rfl rfl)
theorem dX1_set_7 : decode cX1_set 7 = .ok (.invokestatic 184, 3) := dk_184 0 184 (dk_at dksX1_set_0 7 rfl rfl)
theorem dX1_set_10 : decode cX1_set 10 = .ok (.iload_n 1, 1) := dk_27 (dk_at dksX1_set_0 10 rfl rfl)
theorem dX1_set_11 : decode cX1_set 11 = .ok (.tableswitch 199 0 13 #[69, 77, 85, 93, 101, 109, 117, 125, 140, 148, 156, 164, 172, 180], 69) := by decide +kernel
theorem dX1_set_80 : decode cX1_set 80 = .ok (.aload_n 0, 1) := dk_42 (dk_at dksX1_set_2 0 rfl rfl)
theorem dX1_set_81 : decode cX1_set 81 = .ok (.getfield 10, 3) := dk_180 0 10 (dk_at dksX1_set_2 1 rfl rfl)
theorem dX1_set_84 : decode cX1_set 84 = .ok (.getfield 224, 3) := dk_180 0 224 (dk_at dksX1_set_2 4 rfl rfl)
theorem dX1_set_87 : decode cX1_set 87 = .ok (.ireturn, 1) := dk_172 (dk_at dksX1_set_2 7 rfl rfl)
theorem dX1_set_88 : decode cX1_set 88 = .ok (.aload_n 0, 1) := dk_42 (dk_at dksX1_set_2 8 rfl rfl)
theorem dX1_set_89 : decode cX1_set 89 = .ok (.getfield 30, 3) := dk_180 0 30 (dk_at dksX1_set_2 9 rfl rfl)
theorem dX1_set_92 : decode cX1_set 92 = .ok (.getfield 243, 3) := dk_180 0 243 (dk_at dksX1_set_2 12 rfl rfl)
theorem dX1_set_95 : decode cX1_set 95 = .ok (.ireturn, 1) := dk_172 (dk_at dksX1_set_2 15 rfl rfl)
theorem dX1_set_96 : decode cX1_set 96 = .ok (.aload_n 0, 1) := dk_42 (dk_at dksX1_set_2 16 rfl rfl)
theorem dX1_set_97 : decode cX1_set 97 = .ok (.getfield 30, 3) := dk_180 0 30 (dk_at dksX1_set_2 17 rfl rfl)
theorem dX1_set_100 : decode cX1_set 100 = .ok (.getfield 246, 3) := dk_180 0 246 (dk_at dksX1_set_2 20 rfl rfl)
theorem dX1_set_103 : decode cX1_set 103 = .ok (.ireturn, 1) := dk_172 (dk_at dksX1_set_2 23 rfl rfl)
theorem dX1_set_104 : decode cX1_set 104 = .ok (.aload_n 0, 1) := dk_42 (dk_at dksX1_set_3 0 rfl rfl)
theorem dX1_set_105 : decode cX1_set 105 = .ok (.getfield 30, 3) := dk_180 0 30 (dk_at dksX1_set_3 1 rfl rfl)
theorem dX1_set_108 : decode cX1_set 108 = .ok (.getfield 249, 3) := dk_180 0 249 (dk_at dksX1_set_3 4 rfl rfl)
theorem dX1_set_111 : decode cX1_set 111 = .ok (.ireturn, 1) := dk_172 (dk_at dksX1_set_3 7 rfl rfl)
theorem dX1_set_112 : decode cX1_set 112 = .ok (.aload_n 0, 1) := dk_42 (dk_at dksX1_set_3 8 rfl rfl)
theorem dX1_set_113 : decode cX1_set 113 = .ok (.getfield 10, 3) := dk_180 0 10 (dk_at dksX1_set_3 9 rfl rfl)
theorem dX1_set_116 : decode cX1_set 116 = .ok (.getfield 252, 3) := dk_180 0 252 (dk_at dksX1_set_3 12 rfl rfl)
theorem dX1_set_119 : decode cX1_set 119 = .ok (.ireturn, 1) := dk_172 (dk_at dksX1_set_3 15 rfl rfl)
theorem dX1_set_120 : decode cX1_set 120 = .ok (.aload_n 0, 1) := dk_42 (dk_at dksX1_set_3 16 rfl rfl)
theorem dX1_set_121 : decode cX1_set 121 = .ok (.getfield 30, 3) := dk_180 0 30 (dk_at dksX1_set_3 17 rfl rfl)
theorem dX1_set_124 : decode cX1_set 124 = .ok (.getfield 255, 3) := dk_180 0 255 (dk_at dksX1_set_3 20 rfl rfl)
theorem dX1_set_127 : decode cX1_set 127 = .ok (.ireturn, 1) := dk_172 (dk_at dksX1_set_3 23 rfl rfl)
theorem dX1_set_128 : decode cX1_set 128 = .ok (.aload_n 0, 1) := dk_42 (dk_at dksX1_set_4 0 rfl rfl)
theorem dX1_set_129 : decode cX1_set 129 = .ok (.getfield 10, 3) := dk_180 0 10 (dk_at dksX1_set_4 1 rfl rfl)
theorem dX1_set_132 : decode cX1_set 132 = .ok (.getfield 118, 3) := dk_180 0 118 (dk_at dksX1_set_4 4 rfl rfl)
theorem dX1_set_135 : decode cX1_set 135 = .ok (.ireturn, 1) := dk_172 (dk_at dksX1_set_4 7 rfl rfl)
theorem dX1_set_136 : decode cX1_set 136 = .ok (.iconst 1, 1) := dk_4 (dk_at dksX1_set_4 8 rfl rfl)
theorem dX1_set_137 : decode cX1_set 137 = .ok (.aload_n 0, 1) := dk_42 (dk_at dksX1_set_4 9 rfl rfl)
theorem dX1_set_138 : decode cX1_set 138 = .ok (.getfield 10, 3) := dk_180 0 10 (dk_at dksX1_set_4 10 rfl rfl)
theorem dX1_set_141 : decode cX1_set 141 = .ok (.getfield 258, 3) := dk_180 1 2 (dk_at dksX1_set_4 13 rfl rfl)
theorem dX1_set_144 : decode cX1_set 144 = .ok (.invokevirtual 261, 3) := dk_182 1 5 (dk_at dksX1_set_4 16 rfl rfl)
theorem dX1_set_147 : decode cX1_set 147 = .ok (.invokestatic 264, 3) := dk_184 1 8 (dk_at dksX1_set_4 19 rfl rfl)
theorem dX1_set_150 : decode cX1_set 150 = .ok (.ireturn, 1) := dk_172 (dk_at dksX1_set_4 22 rfl rfl)
theorem dX1_set_151 : decode cX1_set 151 = .ok (.aload_n 0, 1) := dk_42 (dk_at dksX1_set_4 23 rfl rfl)
theorem dX1_set_152 : decode cX1_set 152 = .ok (.getfield 30, 3) := dk_180 0 30 (dk_at dksX1_set_5 0 rfl rfl)
theorem dX1_set_155 : decode cX1_set 155 = .ok (.getfield 270, 3) := dk_180 1 14 (dk_at dksX1_set_5 3 rfl rfl)
theorem dX1_set_158 : decode cX1_set 158 = .ok (.ireturn, 1) := dk_172 (dk_at dksX1_set_5 6 rfl rfl)
theorem dX1_set_159 : decode cX1_set 159 = .ok (.aload_n 0, 1) := dk_42 (dk_at dksX1_set_5 7 rfl rfl)
theorem dX1_set_160 : decode cX1_set 160 = .ok (.getfield 30, 3) := dk_180 0 30 (dk_at dksX1_set_5 8 rfl rfl)
theorem dX1_set_163 : decode cX1_set 163 = .ok (.getfield 273, 3) := dk_180 1 17 (dk_at dksX1_set_5 11 rfl rfl)
theorem dX1_set_166 : decode cX1_set 166 = .ok (.ireturn, 1) := dk_172 (dk_at dksX1_set_5 14 rfl rfl)
theorem dX1_set_167 : decode cX1_set 167 = .ok (.aload_n 0, 1) := dk_42 (dk_at dksX1_set_5 15 rfl rfl)
theorem dX1_set_168 : decode cX1_set 168 = .ok (.getfield 30, 3) := dk_180 0 30 (dk_at dksX1_set_5 16 rfl rfl)
theorem dX1_set_171 : decode cX1_set 171 = .ok (.getfield 276, 3) := dk_180 1 20 (dk_at dksX1_set_5 19 rfl rfl)
theorem dX1_set_174 : decode cX1_set 174 = .ok (.ireturn, 1) := dk_172 (dk_at dksX1_set_5 22 rfl rfl)
theorem dX1_set_175 : decode cX1_set 175 = .ok (.aload_n 0, 1) := dk_42 (dk_at dksX1_set_5 23 rfl rfl)
theorem dX1_set_176 : decode cX1_set 176 = .ok (.getfield 30, 3) := dk_180 0 30 (dk_at dksX1_set_6 0 rfl rfl)
theorem dX1_set_179 : decode cX1_set 179 = .ok (.getfield 279, 3) := dk_180 1 23 (dk_at dksX1_set_6 3 rfl rfl)
theorem dX1_set_182 : decode cX1_set 182 = .ok (.ireturn, 1) := dk_172 (dk_at dksX1_set_6 6 rfl rfl)
theorem dX1_set_183 : decode cX1_set 183 = .ok (.aload_n 0, 1) := dk_42 (dk_at dksX1_set_6 7 rfl rfl)
theorem dX1_set_184 : decode cX1_set 184 = .ok (.getfield 30, 3) := dk_180 0 30 (dk_at dksX1_set_6 8 rfl rfl)
theorem dX1_set_187 : decode cX1_set 187 = .ok (.getfield 282, 3) := dk_180 1 26 (dk_at dksX1_set_6 11 rfl rfl)
theorem dX1_set_190 : decode cX1_set 190 = .ok (.ireturn, 1) := dk_172 (dk_at dksX1_set_6 14 rfl rfl)
theorem dX1_set_191 : decode cX1_set 191 = .ok (.aload_n 0, 1) := dk_42 (dk_at dksX1_set_6 15 rfl rfl)
theorem dX1_set_192 : decode cX1_set 192 = .ok (.getfield 30, 3) := dk_180 0 30 (dk_at dksX1_set_6 16 rfl rfl)
theorem dX1_set_195 : decode cX1_set 195 = .ok (.getfield 285, 3) := dk_180 1 29 (dk_at dksX1_set_6 19 rfl rfl)
theorem dX1_set_198 : decode cX1_set 198 = .ok (.bipush 64, 2) := dk_16 64 (dk_at dksX1_set_6 22 rfl rfl)
theorem dX1_set_200 : decode cX1_set 200 = .ok (.aload_n 0, 1) := dk_42 (dk_at dksX1_set_7 0 rfl rfl)
theorem dX1_set_201 : decode cX1_set 201 = .ok (.getfield 10, 3) := dk_180 0 10 (dk_at dksX1_set_7 1 rfl rfl)
theorem dX1_set_204 : decode cX1_set 204 = .ok (.getfield 224, 3) := dk_180 0 224 (dk_at dksX1_set_7 4 rfl rfl)
theorem dX1_set_207 : decode cX1_set 207 = .ok (.imul, 1) := dk_104 (dk_at dksX1_set_7 7 rfl rfl)
theorem dX1_set_208 : decode cX1_set 208 = .ok (.irem, 1) := dk_112 (dk_at dksX1_set_7 8 rfl rfl)
theorem dX1_set_209 : decode cX1_set 209 = .ok (.ireturn, 1) := dk_172 (dk_at dksX1_set_7 9 rfl rfl)
theorem dX1_set_210 : decode cX1_set 210 = .ok (.aload_n 0, 1) := dk_42 (dk_at dksX1_set_7 10 rfl rfl)
theorem dX1_set_211 : decode cX1_set 211 = .ok (.getfield 30, 3) := dk_180 0 30 (dk_at dksX1_set_7 11 rfl rfl)
theorem dX1_set_214 : decode cX1_set 214 = .ok (.getfield 286, 3) := dk_180 1 30 (dk_at dksX1_set_7 14 rfl rfl)
theorem dX1_set_217 : decode cX1_set 217 = .ok (.ireturn, 1) := dk_172 (dk_at dksX1_set_7 17 rfl rfl)
abbrev cX1_flying : ByteArray := prog_1_method_14_code
def yX1_flying : MethodName := ⟨RX1, "flying", "(II)I"⟩
def dkwX1_flying_3 : List UInt8 := [27, 46, 172]
abbrev dktX1_flying_3 : List UInt8 := dkwX1_flying_3 ++ []
def dkwX1_flying_2 : List UInt8 := [28, 4, 160, 0, 15, 42, 180, 0, 30, 180, 1, 36, 27, 46, 167, 0, 12, 42, 180, 0, 30, 180, 1, 39]
abbrev dktX1_flying_2 : List UInt8 := dkwX1_flying_2 ++ dktX1_flying_3
def dkwX1_flying_1 : List UInt8 := [4, 167, 0, 4, 3, 184, 0, 184, 28, 154, 0, 15, 42, 180, 0, 30, 180, 1, 33, 27, 46, 167, 0, 29]
abbrev dktX1_flying_1 : List UInt8 := dkwX1_flying_1 ++ dktX1_flying_2
def dkwX1_flying_0 : List UInt8 := [27, 155, 0, 27, 27, 42, 180, 0, 30, 180, 0, 199, 162, 0, 16, 28, 3, 5, 184, 0, 180, 153, 0, 7]
abbrev dktX1_flying_0 : List UInt8 := dkwX1_flying_0 ++ dktX1_flying_1
theorem dksX1_flying_0 : cX1_flying.data.toList.drop 0 = dktX1_flying_0 := by decide +kernel
theorem dksX1_flying_1 : cX1_flying.data.toList.drop 24 = dktX1_flying_1 := dk_seg dksX1_flying_0 24 rfl rfl
theorem dksX1_flying_2 : cX1_flying.data.toList.drop 48 = dktX1_flying_2 := dk_seg dksX1_flying_1 24 rfl rfl
theorem dksX1_flying_3 : cX1_flying.data.toList.drop 72 = dktX1_flying_3 := dk_seg dksX1_flying_2 24 rfl rfl
theorem dX1_flying_0 : decode cX1_flying 0 = .ok (.iload_n 1, 1) := dk_27 (dk_at dksX1_flying_0 0 rfl rfl)
theorem dX1_flying_1 : decode cX1_flying 1 = .ok (.ifCond .lt 27, 3) := dk_155 0 27 (dk_at dksX1_flying_0 1 rfl rfl)
theorem dX1_flying_4 : decode cX1_flying 4 = .ok (.iload_n 1, 1) := dk_27 (dk_at dksX1_flying_0 4 rfl rfl)
theorem dX1_flying_5 : decode cX1_flying 5 = .ok (.aload_n 0, 1) := dk_42 (dk_at dksX1_flying_0 5 rfl rfl)
theorem dX1_flying_6 : decode cX1_flying 6 = .ok (.getfield 30, 3) := dk_180 0 30 (dk_at dksX1_flying_0 6 rfl rfl)
theorem dX1_flying_9 : decode cX1_flying 9 = .ok (.getfield 199, 3) := dk_180 0 199 (dk_at dksX1_flying_0 9 rfl rfl)
theorem dX1_flying_12 : decode cX1_flying 12 = .ok (.if_icmp .ge 16, 3) := dk_162 0 16 (dk_at dksX1_flying_0 12 rfl rfl)
theorem dX1_flying_15 : decode cX1_flying 15 = .ok (.iload_n 2, 1) := dk_28 (dk_at dksX1_flying_0 15 rfl rfl)
theorem dX1_flying_16 : decode cX1_flying 16 = .ok (.iconst 0, 1) := dk_3 (dk_at dksX1_flying_0 16 rfl rfl)
theorem dX1_flying_17 : decode cX1_flying 17 = .ok (.iconst 2, 1) := dk_5 (dk_at dksX1_flying_0 17 rfl rfl)
theorem dX1_flying_18 : decode cX1_flying 18 = .ok (.invokestatic 180, 3) := dk_184 0 180 (dk_at dksX1_flying_0 18 rfl rfl)
theorem dX1_flying_21 : decode cX1_flying 21 = .ok (.ifCond .eq 7, 3) := dk_153 0 7 (dk_at dksX1_flying_0 21 rfl rfl)
theorem dX1_flying_24 : decode cX1_flying 24 = .ok (.iconst 1, 1) := dk_4 (dk_at dksX1_flying_1 0 rfl rfl)
theorem dX1_flying_25 : decode cX1_flying 25 = .ok (.goto 4, 3) := dk_167 0 4 (dk_at dksX1_flying_1 1 rfl rfl)
theorem dX1_flying_28 : decode cX1_flying 28 = .ok (.iconst 0, 1) := dk_3 (dk_at dksX1_flying_1 4 rfl rfl)
theorem dX1_flying_29 : decode cX1_flying 29 = .ok (.invokestatic 184, 3) := dk_184 0 184 (dk_at dksX1_flying_1 5 rfl rfl)
theorem dX1_flying_32 : decode cX1_flying 32 = .ok (.iload_n 2, 1) := dk_28 (dk_at dksX1_flying_1 8 rfl rfl)
theorem dX1_flying_33 : decode cX1_flying 33 = .ok (.ifCond .ne 15, 3) := dk_154 0 15 (dk_at dksX1_flying_1 9 rfl rfl)
theorem dX1_flying_36 : decode cX1_flying 36 = .ok (.aload_n 0, 1) := dk_42 (dk_at dksX1_flying_1 12 rfl rfl)
theorem dX1_flying_37 : decode cX1_flying 37 = .ok (.getfield 30, 3) := dk_180 0 30 (dk_at dksX1_flying_1 13 rfl rfl)
theorem dX1_flying_40 : decode cX1_flying 40 = .ok (.getfield 289, 3) := dk_180 1 33 (dk_at dksX1_flying_1 16 rfl rfl)
theorem dX1_flying_43 : decode cX1_flying 43 = .ok (.iload_n 1, 1) := dk_27 (dk_at dksX1_flying_1 19 rfl rfl)
theorem dX1_flying_44 : decode cX1_flying 44 = .ok (.iaload, 1) := dk_46 (dk_at dksX1_flying_1 20 rfl rfl)
theorem dX1_flying_45 : decode cX1_flying 45 = .ok (.goto 29, 3) := dk_167 0 29 (dk_at dksX1_flying_1 21 rfl rfl)
theorem dX1_flying_48 : decode cX1_flying 48 = .ok (.iload_n 2, 1) := dk_28 (dk_at dksX1_flying_2 0 rfl rfl)
theorem dX1_flying_49 : decode cX1_flying 49 = .ok (.iconst 1, 1) := dk_4 (dk_at dksX1_flying_2 1 rfl rfl)
theorem dX1_flying_50 : decode cX1_flying 50 = .ok (.if_icmp .ne 15, 3) := dk_160 0 15 (dk_at dksX1_flying_2 2 rfl rfl)
theorem dX1_flying_53 : decode cX1_flying 53 = .ok (.aload_n 0, 1) := dk_42 (dk_at dksX1_flying_2 5 rfl rfl)
theorem dX1_flying_54 : decode cX1_flying 54 = .ok (.getfield 30, 3) := dk_180 0 30 (dk_at dksX1_flying_2 6 rfl rfl)
theorem dX1_flying_57 : decode cX1_flying 57 = .ok (.getfield 292, 3) := dk_180 1 36 (dk_at dksX1_flying_2 9 rfl rfl)
theorem dX1_flying_60 : decode cX1_flying 60 = .ok (.iload_n 1, 1) := dk_27 (dk_at dksX1_flying_2 12 rfl rfl)
theorem dX1_flying_61 : decode cX1_flying 61 = .ok (.iaload, 1) := dk_46 (dk_at dksX1_flying_2 13 rfl rfl)
theorem dX1_flying_62 : decode cX1_flying 62 = .ok (.goto 12, 3) := dk_167 0 12 (dk_at dksX1_flying_2 14 rfl rfl)
theorem dX1_flying_65 : decode cX1_flying 65 = .ok (.aload_n 0, 1) := dk_42 (dk_at dksX1_flying_2 17 rfl rfl)
theorem dX1_flying_66 : decode cX1_flying 66 = .ok (.getfield 30, 3) := dk_180 0 30 (dk_at dksX1_flying_2 18 rfl rfl)
theorem dX1_flying_69 : decode cX1_flying 69 = .ok (.getfield 295, 3) := dk_180 1 39 (dk_at dksX1_flying_2 21 rfl rfl)
theorem dX1_flying_72 : decode cX1_flying 72 = .ok (.iload_n 1, 1) := dk_27 (dk_at dksX1_flying_3 0 rfl rfl)
theorem dX1_flying_73 : decode cX1_flying 73 = .ok (.iaload, 1) := dk_46 (dk_at dksX1_flying_3 1 rfl rfl)
theorem dX1_flying_74 : decode cX1_flying 74 = .ok (.ireturn, 1) := dk_172 (dk_at dksX1_flying_3 2 rfl rfl)
abbrev cX1_slot : ByteArray := prog_1_method_15_code
def yX1_slot : MethodName := ⟨RX1, "slot", "(I)I"⟩
def dkwX1_slot_2 : List UInt8 := [180, 0, 30, 180, 1, 45, 27, 46, 167, 0, 4, 2, 172]
abbrev dktX1_slot_2 : List UInt8 := dkwX1_slot_2 ++ []
def dkwX1_slot_1 : List UInt8 := [180, 1, 42, 27, 46, 42, 180, 0, 30, 180, 1, 29, 42, 180, 0, 10, 180, 0, 224, 108, 161, 0, 15, 42]
abbrev dktX1_slot_1 : List UInt8 := dkwX1_slot_1 ++ dktX1_slot_2
def dkwX1_slot_0 : List UInt8 := [27, 3, 16, 63, 184, 0, 180, 184, 0, 184, 42, 180, 0, 30, 180, 0, 171, 153, 0, 42, 42, 180, 0, 30]
abbrev dktX1_slot_0 : List UInt8 := dkwX1_slot_0 ++ dktX1_slot_1
theorem dksX1_slot_0 : cX1_slot.data.toList.drop 0 = dktX1_slot_0 := by decide +kernel
theorem dksX1_slot_1 : cX1_slot.data.toList.drop 24 = dktX1_slot_1 := dk_seg dksX1_slot_0 24 rfl rfl
theorem dksX1_slot_2 : cX1_slot.data.toList.drop 48 = dktX1_slot_2 := dk_seg dksX1_slot_1 24 rfl rfl
theorem dX1_slot_0 : decode cX1_slot 0 = .ok (.iload_n 1, 1) := dk_27 (dk_at dksX1_slot_0 0 rfl rfl)
theorem dX1_slot_1 : decode cX1_slot 1 = .ok (.iconst 0, 1) := dk_3 (dk_at dksX1_slot_0 1 rfl rfl)
theorem dX1_slot_2 : decode cX1_slot 2 = .ok (.bipush 63, 2) := dk_16 63 (dk_at dksX1_slot_0 2 rfl rfl)
theorem dX1_slot_4 : decode cX1_slot 4 = .ok (.invokestatic 180, 3) := dk_184 0 180 (dk_at dksX1_slot_0 4 rfl rfl)
theorem dX1_slot_7 : decode cX1_slot 7 = .ok (.invokestatic 184, 3) := dk_184 0 184 (dk_at dksX1_slot_0 7 rfl rfl)
theorem dX1_slot_10 : decode cX1_slot 10 = .ok (.aload_n 0, 1) := dk_42 (dk_at dksX1_slot_0 10 rfl rfl)
theorem dX1_slot_11 : decode cX1_slot 11 = .ok (.getfield 30, 3) := dk_180 0 30 (dk_at dksX1_slot_0 11 rfl rfl)
theorem dX1_slot_14 : decode cX1_slot 14 = .ok (.getfield 171, 3) := dk_180 0 171 (dk_at dksX1_slot_0 14 rfl rfl)
theorem dX1_slot_17 : decode cX1_slot 17 = .ok (.ifCond .eq 42, 3) := dk_153 0 42 (dk_at dksX1_slot_0 17 rfl rfl)
theorem dX1_slot_20 : decode cX1_slot 20 = .ok (.aload_n 0, 1) := dk_42 (dk_at dksX1_slot_0 20 rfl rfl)
theorem dX1_slot_21 : decode cX1_slot 21 = .ok (.getfield 30, 3) := dk_180 0 30 (dk_at dksX1_slot_0 21 rfl rfl)
theorem dX1_slot_24 : decode cX1_slot 24 = .ok (.getfield 298, 3) := dk_180 1 42 (dk_at dksX1_slot_1 0 rfl rfl)
theorem dX1_slot_27 : decode cX1_slot 27 = .ok (.iload_n 1, 1) := dk_27 (dk_at dksX1_slot_1 3 rfl rfl)
theorem dX1_slot_28 : decode cX1_slot 28 = .ok (.iaload, 1) := dk_46 (dk_at dksX1_slot_1 4 rfl rfl)
theorem dX1_slot_29 : decode cX1_slot 29 = .ok (.aload_n 0, 1) := dk_42 (dk_at dksX1_slot_1 5 rfl rfl)
theorem dX1_slot_30 : decode cX1_slot 30 = .ok (.getfield 30, 3) := dk_180 0 30 (dk_at dksX1_slot_1 6 rfl rfl)
theorem dX1_slot_33 : decode cX1_slot 33 = .ok (.getfield 285, 3) := dk_180 1 29 (dk_at dksX1_slot_1 9 rfl rfl)
theorem dX1_slot_36 : decode cX1_slot 36 = .ok (.aload_n 0, 1) := dk_42 (dk_at dksX1_slot_1 12 rfl rfl)
theorem dX1_slot_37 : decode cX1_slot 37 = .ok (.getfield 10, 3) := dk_180 0 10 (dk_at dksX1_slot_1 13 rfl rfl)
theorem dX1_slot_40 : decode cX1_slot 40 = .ok (.getfield 224, 3) := dk_180 0 224 (dk_at dksX1_slot_1 16 rfl rfl)
theorem dX1_slot_43 : decode cX1_slot 43 = .ok (.idiv, 1) := dk_108 (dk_at dksX1_slot_1 19 rfl rfl)
theorem dX1_slot_44 : decode cX1_slot 44 = .ok (.if_icmp .lt 15, 3) := dk_161 0 15 (dk_at dksX1_slot_1 20 rfl rfl)
theorem dX1_slot_47 : decode cX1_slot 47 = .ok (.aload_n 0, 1) := dk_42 (dk_at dksX1_slot_1 23 rfl rfl)
theorem dX1_slot_48 : decode cX1_slot 48 = .ok (.getfield 30, 3) := dk_180 0 30 (dk_at dksX1_slot_2 0 rfl rfl)
theorem dX1_slot_51 : decode cX1_slot 51 = .ok (.getfield 301, 3) := dk_180 1 45 (dk_at dksX1_slot_2 3 rfl rfl)
theorem dX1_slot_54 : decode cX1_slot 54 = .ok (.iload_n 1, 1) := dk_27 (dk_at dksX1_slot_2 6 rfl rfl)
theorem dX1_slot_55 : decode cX1_slot 55 = .ok (.iaload, 1) := dk_46 (dk_at dksX1_slot_2 7 rfl rfl)
theorem dX1_slot_56 : decode cX1_slot 56 = .ok (.goto 4, 3) := dk_167 0 4 (dk_at dksX1_slot_2 8 rfl rfl)
theorem dX1_slot_59 : decode cX1_slot 59 = .ok (.iconst (-1), 1) := dk_2 (dk_at dksX1_slot_2 11 rfl rfl)
theorem dX1_slot_60 : decode cX1_slot 60 = .ok (.ireturn, 1) := dk_172 (dk_at dksX1_slot_2 12 rfl rfl)
abbrev cX1_played : ByteArray := prog_1_method_16_code
def yX1_played : MethodName := ⟨RX1, "played", "(II)I"⟩
def dkwX1_played_3 : List UInt8 := [180, 0, 208, 182, 0, 240, 4, 100, 27, 100, 182, 1, 52, 153, 0, 7, 4, 167, 0, 4, 3, 172]
abbrev dktX1_played_3 : List UInt8 := dkwX1_played_3 ++ []
def dkwX1_played_2 : List UInt8 := [4, 96, 182, 0, 121, 167, 0, 39, 42, 180, 0, 30, 182, 1, 48, 42, 180, 0, 30, 42, 180, 0, 30]
abbrev dktX1_played_2 : List UInt8 := dkwX1_played_2 ++ dktX1_played_3
def dkwX1_played_1 : List UInt8 := [4, 184, 0, 180, 153, 0, 7, 4, 167, 0, 4, 3, 184, 0, 184, 28, 154, 0, 16, 42, 180, 0, 30, 27]
abbrev dktX1_played_1 : List UInt8 := dkwX1_played_1 ++ dktX1_played_2
def dkwX1_played_0 : List UInt8 := [27, 155, 0, 34, 27, 42, 180, 0, 30, 42, 180, 0, 30, 180, 0, 208, 182, 0, 240, 162, 0, 16, 28, 3]
abbrev dktX1_played_0 : List UInt8 := dkwX1_played_0 ++ dktX1_played_1
theorem dksX1_played_0 : cX1_played.data.toList.drop 0 = dktX1_played_0 := by decide +kernel
theorem dksX1_played_1 : cX1_played.data.toList.drop 24 = dktX1_played_1 := dk_seg dksX1_played_0 24 rfl rfl
theorem dksX1_played_2 : cX1_played.data.toList.drop 48 = dktX1_played_2 := dk_seg dksX1_played_1 24 rfl rfl
theorem dksX1_played_3 : cX1_played.data.toList.drop 71 = dktX1_played_3 := dk_seg dksX1_played_2 23 rfl rfl
theorem dX1_played_0 : decode cX1_played 0 = .ok (.iload_n 1, 1) := dk_27 (dk_at dksX1_played_0 0 rfl rfl)
theorem dX1_played_1 : decode cX1_played 1 = .ok (.ifCond .lt 34, 3) := dk_155 0 34 (dk_at dksX1_played_0 1 rfl rfl)
theorem dX1_played_4 : decode cX1_played 4 = .ok (.iload_n 1, 1) := dk_27 (dk_at dksX1_played_0 4 rfl rfl)
theorem dX1_played_5 : decode cX1_played 5 = .ok (.aload_n 0, 1) := dk_42 (dk_at dksX1_played_0 5 rfl rfl)
theorem dX1_played_6 : decode cX1_played 6 = .ok (.getfield 30, 3) := dk_180 0 30 (dk_at dksX1_played_0 6 rfl rfl)
theorem dX1_played_9 : decode cX1_played 9 = .ok (.aload_n 0, 1) := dk_42 (dk_at dksX1_played_0 9 rfl rfl)
theorem dX1_played_10 : decode cX1_played 10 = .ok (.getfield 30, 3) := dk_180 0 30 (dk_at dksX1_played_0 10 rfl rfl)
theorem dX1_played_13 : decode cX1_played 13 = .ok (.getfield 208, 3) := dk_180 0 208 (dk_at dksX1_played_0 13 rfl rfl)
theorem dX1_played_16 : decode cX1_played 16 = .ok (.invokevirtual 240, 3) := dk_182 0 240 (dk_at dksX1_played_0 16 rfl rfl)
theorem dX1_played_19 : decode cX1_played 19 = .ok (.if_icmp .ge 16, 3) := dk_162 0 16 (dk_at dksX1_played_0 19 rfl rfl)
theorem dX1_played_22 : decode cX1_played 22 = .ok (.iload_n 2, 1) := dk_28 (dk_at dksX1_played_0 22 rfl rfl)
theorem dX1_played_23 : decode cX1_played 23 = .ok (.iconst 0, 1) := dk_3 (dk_at dksX1_played_0 23 rfl rfl)
theorem dX1_played_24 : decode cX1_played 24 = .ok (.iconst 1, 1) := dk_4 (dk_at dksX1_played_1 0 rfl rfl)
theorem dX1_played_25 : decode cX1_played 25 = .ok (.invokestatic 180, 3) := dk_184 0 180 (dk_at dksX1_played_1 1 rfl rfl)
theorem dX1_played_28 : decode cX1_played 28 = .ok (.ifCond .eq 7, 3) := dk_153 0 7 (dk_at dksX1_played_1 4 rfl rfl)
theorem dX1_played_31 : decode cX1_played 31 = .ok (.iconst 1, 1) := dk_4 (dk_at dksX1_played_1 7 rfl rfl)
theorem dX1_played_32 : decode cX1_played 32 = .ok (.goto 4, 3) := dk_167 0 4 (dk_at dksX1_played_1 8 rfl rfl)
theorem dX1_played_35 : decode cX1_played 35 = .ok (.iconst 0, 1) := dk_3 (dk_at dksX1_played_1 11 rfl rfl)
theorem dX1_played_36 : decode cX1_played 36 = .ok (.invokestatic 184, 3) := dk_184 0 184 (dk_at dksX1_played_1 12 rfl rfl)
theorem dX1_played_39 : decode cX1_played 39 = .ok (.iload_n 2, 1) := dk_28 (dk_at dksX1_played_1 15 rfl rfl)
theorem dX1_played_40 : decode cX1_played 40 = .ok (.ifCond .ne 16, 3) := dk_154 0 16 (dk_at dksX1_played_1 16 rfl rfl)
theorem dX1_played_43 : decode cX1_played 43 = .ok (.aload_n 0, 1) := dk_42 (dk_at dksX1_played_1 19 rfl rfl)
theorem dX1_played_44 : decode cX1_played 44 = .ok (.getfield 30, 3) := dk_180 0 30 (dk_at dksX1_played_1 20 rfl rfl)
theorem dX1_played_47 : decode cX1_played 47 = .ok (.iload_n 1, 1) := dk_27 (dk_at dksX1_played_1 23 rfl rfl)
theorem dX1_played_48 : decode cX1_played 48 = .ok (.iconst 1, 1) := dk_4 (dk_at dksX1_played_2 0 rfl rfl)
theorem dX1_played_49 : decode cX1_played 49 = .ok (.iadd, 1) := dk_96 (dk_at dksX1_played_2 1 rfl rfl)
theorem dX1_played_50 : decode cX1_played 50 = .ok (.invokevirtual 121, 3) := dk_182 0 121 (dk_at dksX1_played_2 2 rfl rfl)
theorem dX1_played_53 : decode cX1_played 53 = .ok (.goto 39, 3) := dk_167 0 39 (dk_at dksX1_played_2 5 rfl rfl)
theorem dX1_played_56 : decode cX1_played 56 = .ok (.aload_n 0, 1) := dk_42 (dk_at dksX1_played_2 8 rfl rfl)
theorem dX1_played_57 : decode cX1_played 57 = .ok (.getfield 30, 3) := dk_180 0 30 (dk_at dksX1_played_2 9 rfl rfl)
theorem dX1_played_60 : decode cX1_played 60 = .ok (.invokevirtual 304, 3) := dk_182 1 48 (dk_at dksX1_played_2 12 rfl rfl)
theorem dX1_played_63 : decode cX1_played 63 = .ok (.aload_n 0, 1) := dk_42 (dk_at dksX1_played_2 15 rfl rfl)
theorem dX1_played_64 : decode cX1_played 64 = .ok (.getfield 30, 3) := dk_180 0 30 (dk_at dksX1_played_2 16 rfl rfl)
theorem dX1_played_67 : decode cX1_played 67 = .ok (.aload_n 0, 1) := dk_42 (dk_at dksX1_played_2 19 rfl rfl)
theorem dX1_played_68 : decode cX1_played 68 = .ok (.getfield 30, 3) := dk_180 0 30 (dk_at dksX1_played_2 20 rfl rfl)
theorem dX1_played_71 : decode cX1_played 71 = .ok (.getfield 208, 3) := dk_180 0 208 (dk_at dksX1_played_3 0 rfl rfl)
theorem dX1_played_74 : decode cX1_played 74 = .ok (.invokevirtual 240, 3) := dk_182 0 240 (dk_at dksX1_played_3 3 rfl rfl)
theorem dX1_played_77 : decode cX1_played 77 = .ok (.iconst 1, 1) := dk_4 (dk_at dksX1_played_3 6 rfl rfl)
theorem dX1_played_78 : decode cX1_played 78 = .ok (.isub, 1) := dk_100 (dk_at dksX1_played_3 7 rfl rfl)
theorem dX1_played_79 : decode cX1_played 79 = .ok (.iload_n 1, 1) := dk_27 (dk_at dksX1_played_3 8 rfl rfl)
theorem dX1_played_80 : decode cX1_played 80 = .ok (.isub, 1) := dk_100 (dk_at dksX1_played_3 9 rfl rfl)
theorem dX1_played_81 : decode cX1_played 81 = .ok (.invokevirtual 308, 3) := dk_182 1 52 (dk_at dksX1_played_3 10 rfl rfl)
theorem dX1_played_84 : decode cX1_played 84 = .ok (.ifCond .eq 7, 3) := dk_153 0 7 (dk_at dksX1_played_3 13 rfl rfl)
theorem dX1_played_87 : decode cX1_played 87 = .ok (.iconst 1, 1) := dk_4 (dk_at dksX1_played_3 16 rfl rfl)
theorem dX1_played_88 : decode cX1_played 88 = .ok (.goto 4, 3) := dk_167 0 4 (dk_at dksX1_played_3 17 rfl rfl)
theorem dX1_played_91 : decode cX1_played 91 = .ok (.iconst 0, 1) := dk_3 (dk_at dksX1_played_3 20 rfl rfl)
theorem dX1_played_92 : decode cX1_played 92 = .ok (.ireturn, 1) := dk_172 (dk_at dksX1_played_3 21 rfl rfl)
abbrev cX1_spans : ByteArray := prog_1_method_17_code
def yX1_spans : MethodName := ⟨RX1, "spans", "(II)I"⟩
def dkwX1_spans_6 : List UInt8 := [162, 0, 7, 4, 167, 0, 4, 3, 184, 0, 184, 45, 28, 182, 1, 98, 192, 1, 68, 182, 1, 91, 172]
abbrev dktX1_spans_6 : List UInt8 := dkwX1_spans_6 ++ []
def dkwX1_spans_5 : List UInt8 := [167, 255, 222, 28, 2, 160, 0, 8, 45, 182, 1, 97, 172, 28, 155, 0, 15, 28, 45, 182, 1, 97]
abbrev dktX1_spans_5 : List UInt8 := dkwX1_spans_5 ++ dktX1_spans_6
def dkwX1_spans_4 : List UInt8 := [185, 1, 87, 1, 0, 192, 1, 68, 182, 1, 91, 27, 162, 255, 232, 25, 5, 185, 1, 94, 1, 0]
abbrev dktX1_spans_4 : List UInt8 := dkwX1_spans_4 ++ dktX1_spans_5
def dkwX1_spans_3 : List UInt8 := [54, 5, 167, 255, 220, 45, 182, 1, 77, 58, 5, 25, 5, 185, 1, 81, 1, 0, 153, 0, 30, 25, 5]
abbrev dktX1_spans_3 : List UInt8 := dkwX1_spans_3 ++ dktX1_spans_4
def dkwX1_spans_2 : List UInt8 := [182, 1, 64, 21, 5, 100, 184, 1, 67, 182, 1, 73, 25, 4, 25, 4, 21, 5, 182, 1, 64, 182, 1, 61]
abbrev dktX1_spans_2 : List UInt8 := dkwX1_spans_2 ++ dktX1_spans_3
def dkwX1_spans_1 : List UInt8 := [182, 1, 48, 58, 4, 25, 4, 3, 182, 1, 61, 54, 5, 21, 5, 155, 0, 37, 45, 25, 4, 21, 5]
abbrev dktX1_spans_1 : List UInt8 := dkwX1_spans_1 ++ dktX1_spans_2
def dkwX1_spans_0 : List UInt8 := [27, 4, 17, 0, 128, 184, 0, 180, 184, 0, 137, 187, 1, 58, 89, 183, 1, 60, 78, 42, 180, 0, 30]
abbrev dktX1_spans_0 : List UInt8 := dkwX1_spans_0 ++ dktX1_spans_1
theorem dksX1_spans_0 : cX1_spans.data.toList.drop 0 = dktX1_spans_0 := by decide +kernel
theorem dksX1_spans_1 : cX1_spans.data.toList.drop 23 = dktX1_spans_1 := dk_seg dksX1_spans_0 23 rfl rfl
theorem dksX1_spans_2 : cX1_spans.data.toList.drop 46 = dktX1_spans_2 := dk_seg dksX1_spans_1 23 rfl rfl
theorem dksX1_spans_3 : cX1_spans.data.toList.drop 70 = dktX1_spans_3 := dk_seg dksX1_spans_2 24 rfl rfl
theorem dksX1_spans_4 : cX1_spans.data.toList.drop 93 = dktX1_spans_4 := dk_seg dksX1_spans_3 23 rfl rfl
theorem dksX1_spans_5 : cX1_spans.data.toList.drop 115 = dktX1_spans_5 := dk_seg dksX1_spans_4 22 rfl rfl
theorem dksX1_spans_6 : cX1_spans.data.toList.drop 137 = dktX1_spans_6 := dk_seg dksX1_spans_5 22 rfl rfl
theorem dX1_spans_0 : decode cX1_spans 0 = .ok (.iload_n 1, 1) := dk_27 (dk_at dksX1_spans_0 0 rfl rfl)
theorem dX1_spans_1 : decode cX1_spans 1 = .ok (.iconst 1, 1) := dk_4 (dk_at dksX1_spans_0 1 rfl rfl)
theorem dX1_spans_2 : decode cX1_spans 2 = .ok (.sipush 128, 3) := dk_17 0 128 (dk_at dksX1_spans_0 2 rfl rfl)
theorem dX1_spans_5 : decode cX1_spans 5 = .ok (.invokestatic 180, 3) := dk_184 0 180 (dk_at dksX1_spans_0 5 rfl rfl)
theorem dX1_spans_8 : decode cX1_spans 8 = .ok (.invokestatic 137, 3) := dk_184 0 137 (dk_at dksX1_spans_0 8 rfl rfl)
theorem dX1_spans_11 : decode cX1_spans 11 = .ok (.new 314, 3) := dk_187 1 58 (dk_at dksX1_spans_0 11 rfl rfl)
theorem dX1_spans_14 : decode cX1_spans 14 = .ok (.dup, 1) := dk_89 (dk_at dksX1_spans_0 14 rfl rfl)
theorem dX1_spans_15 : decode cX1_spans 15 = .ok (.invokespecial 316, 3) := dk_183 1 60 (dk_at dksX1_spans_0 15 rfl rfl)
theorem dX1_spans_18 : decode cX1_spans 18 = .ok (.astore_n 3, 1) := dk_78 (dk_at dksX1_spans_0 18 rfl rfl)
theorem dX1_spans_19 : decode cX1_spans 19 = .ok (.aload_n 0, 1) := dk_42 (dk_at dksX1_spans_0 19 rfl rfl)
theorem dX1_spans_20 : decode cX1_spans 20 = .ok (.getfield 30, 3) := dk_180 0 30 (dk_at dksX1_spans_0 20 rfl rfl)
theorem dX1_spans_23 : decode cX1_spans 23 = .ok (.invokevirtual 304, 3) := dk_182 1 48 (dk_at dksX1_spans_1 0 rfl rfl)
theorem dX1_spans_26 : decode cX1_spans 26 = .ok (.astore 4, 2) := dk_58 4 (dk_at dksX1_spans_1 3 rfl rfl)
theorem dX1_spans_28 : decode cX1_spans 28 = .ok (.aload 4, 2) := dk_25 4 (dk_at dksX1_spans_1 5 rfl rfl)
theorem dX1_spans_30 : decode cX1_spans 30 = .ok (.iconst 0, 1) := dk_3 (dk_at dksX1_spans_1 7 rfl rfl)
theorem dX1_spans_31 : decode cX1_spans 31 = .ok (.invokevirtual 317, 3) := dk_182 1 61 (dk_at dksX1_spans_1 8 rfl rfl)
theorem dX1_spans_34 : decode cX1_spans 34 = .ok (.istore 5, 2) := dk_54 5 (dk_at dksX1_spans_1 11 rfl rfl)
theorem dX1_spans_36 : decode cX1_spans 36 = .ok (.iload 5, 2) := dk_21 5 (dk_at dksX1_spans_1 13 rfl rfl)
theorem dX1_spans_38 : decode cX1_spans 38 = .ok (.ifCond .lt 37, 3) := dk_155 0 37 (dk_at dksX1_spans_1 15 rfl rfl)
theorem dX1_spans_41 : decode cX1_spans 41 = .ok (.aload_n 3, 1) := dk_45 (dk_at dksX1_spans_1 18 rfl rfl)
theorem dX1_spans_42 : decode cX1_spans 42 = .ok (.aload 4, 2) := dk_25 4 (dk_at dksX1_spans_1 19 rfl rfl)
theorem dX1_spans_44 : decode cX1_spans 44 = .ok (.iload 5, 2) := dk_21 5 (dk_at dksX1_spans_1 21 rfl rfl)
theorem dX1_spans_46 : decode cX1_spans 46 = .ok (.invokevirtual 320, 3) := dk_182 1 64 (dk_at dksX1_spans_2 0 rfl rfl)
theorem dX1_spans_49 : decode cX1_spans 49 = .ok (.iload 5, 2) := dk_21 5 (dk_at dksX1_spans_2 3 rfl rfl)
theorem dX1_spans_51 : decode cX1_spans 51 = .ok (.isub, 1) := dk_100 (dk_at dksX1_spans_2 5 rfl rfl)
theorem dX1_spans_52 : decode cX1_spans 52 = .ok (.invokestatic 323, 3) := dk_184 1 67 (dk_at dksX1_spans_2 6 rfl rfl)
theorem dX1_spans_55 : decode cX1_spans 55 = .ok (.invokevirtual 329, 3) := dk_182 1 73 (dk_at dksX1_spans_2 9 rfl rfl)
theorem dX1_spans_58 : decode cX1_spans 58 = .ok (.aload 4, 2) := dk_25 4 (dk_at dksX1_spans_2 12 rfl rfl)
theorem dX1_spans_60 : decode cX1_spans 60 = .ok (.aload 4, 2) := dk_25 4 (dk_at dksX1_spans_2 14 rfl rfl)
theorem dX1_spans_62 : decode cX1_spans 62 = .ok (.iload 5, 2) := dk_21 5 (dk_at dksX1_spans_2 16 rfl rfl)
theorem dX1_spans_64 : decode cX1_spans 64 = .ok (.invokevirtual 320, 3) := dk_182 1 64 (dk_at dksX1_spans_2 18 rfl rfl)
theorem dX1_spans_67 : decode cX1_spans 67 = .ok (.invokevirtual 317, 3) := dk_182 1 61 (dk_at dksX1_spans_2 21 rfl rfl)
theorem dX1_spans_70 : decode cX1_spans 70 = .ok (.istore 5, 2) := dk_54 5 (dk_at dksX1_spans_3 0 rfl rfl)
theorem dX1_spans_72 : decode cX1_spans 72 = .ok (.goto (-36), 3) := dk_167 255 220 (dk_at dksX1_spans_3 2 rfl rfl)
theorem dX1_spans_75 : decode cX1_spans 75 = .ok (.aload_n 3, 1) := dk_45 (dk_at dksX1_spans_3 5 rfl rfl)
theorem dX1_spans_76 : decode cX1_spans 76 = .ok (.invokevirtual 333, 3) := dk_182 1 77 (dk_at dksX1_spans_3 6 rfl rfl)
theorem dX1_spans_79 : decode cX1_spans 79 = .ok (.astore 5, 2) := dk_58 5 (dk_at dksX1_spans_3 9 rfl rfl)
theorem dX1_spans_81 : decode cX1_spans 81 = .ok (.aload 5, 2) := dk_25 5 (dk_at dksX1_spans_3 11 rfl rfl)
theorem dX1_spans_83 : decode cX1_spans 83 = .ok (.invokeinterface 337 1, 5) := by decide +kernel
theorem dX1_spans_88 : decode cX1_spans 88 = .ok (.ifCond .eq 30, 3) := dk_153 0 30 (dk_at dksX1_spans_3 18 rfl rfl)
theorem dX1_spans_91 : decode cX1_spans 91 = .ok (.aload 5, 2) := dk_25 5 (dk_at dksX1_spans_3 21 rfl rfl)
theorem dX1_spans_93 : decode cX1_spans 93 = .ok (.invokeinterface 343 1, 5) := by decide +kernel
theorem dX1_spans_98 : decode cX1_spans 98 = .ok (.checkcast 324, 3) := dk_192 1 68 (dk_at dksX1_spans_4 5 rfl rfl)
theorem dX1_spans_101 : decode cX1_spans 101 = .ok (.invokevirtual 347, 3) := dk_182 1 91 (dk_at dksX1_spans_4 8 rfl rfl)
theorem dX1_spans_104 : decode cX1_spans 104 = .ok (.iload_n 1, 1) := dk_27 (dk_at dksX1_spans_4 11 rfl rfl)
theorem dX1_spans_105 : decode cX1_spans 105 = .ok (.if_icmp .ge (-24), 3) := dk_162 255 232 (dk_at dksX1_spans_4 12 rfl rfl)
theorem dX1_spans_108 : decode cX1_spans 108 = .ok (.aload 5, 2) := dk_25 5 (dk_at dksX1_spans_4 15 rfl rfl)
theorem dX1_spans_110 : decode cX1_spans 110 = .ok (.invokeinterface 350 1, 5) := by decide +kernel
theorem dX1_spans_115 : decode cX1_spans 115 = .ok (.goto (-34), 3) := dk_167 255 222 (dk_at dksX1_spans_5 0 rfl rfl)
theorem dX1_spans_118 : decode cX1_spans 118 = .ok (.iload_n 2, 1) := dk_28 (dk_at dksX1_spans_5 3 rfl rfl)
theorem dX1_spans_119 : decode cX1_spans 119 = .ok (.iconst (-1), 1) := dk_2 (dk_at dksX1_spans_5 4 rfl rfl)
theorem dX1_spans_120 : decode cX1_spans 120 = .ok (.if_icmp .ne 8, 3) := dk_160 0 8 (dk_at dksX1_spans_5 5 rfl rfl)
theorem dX1_spans_123 : decode cX1_spans 123 = .ok (.aload_n 3, 1) := dk_45 (dk_at dksX1_spans_5 8 rfl rfl)
theorem dX1_spans_124 : decode cX1_spans 124 = .ok (.invokevirtual 353, 3) := dk_182 1 97 (dk_at dksX1_spans_5 9 rfl rfl)
theorem dX1_spans_127 : decode cX1_spans 127 = .ok (.ireturn, 1) := dk_172 (dk_at dksX1_spans_5 12 rfl rfl)
theorem dX1_spans_128 : decode cX1_spans 128 = .ok (.iload_n 2, 1) := dk_28 (dk_at dksX1_spans_5 13 rfl rfl)
theorem dX1_spans_129 : decode cX1_spans 129 = .ok (.ifCond .lt 15, 3) := dk_155 0 15 (dk_at dksX1_spans_5 14 rfl rfl)
theorem dX1_spans_132 : decode cX1_spans 132 = .ok (.iload_n 2, 1) := dk_28 (dk_at dksX1_spans_5 17 rfl rfl)
theorem dX1_spans_133 : decode cX1_spans 133 = .ok (.aload_n 3, 1) := dk_45 (dk_at dksX1_spans_5 18 rfl rfl)
theorem dX1_spans_134 : decode cX1_spans 134 = .ok (.invokevirtual 353, 3) := dk_182 1 97 (dk_at dksX1_spans_5 19 rfl rfl)
theorem dX1_spans_137 : decode cX1_spans 137 = .ok (.if_icmp .ge 7, 3) := dk_162 0 7 (dk_at dksX1_spans_6 0 rfl rfl)
theorem dX1_spans_140 : decode cX1_spans 140 = .ok (.iconst 1, 1) := dk_4 (dk_at dksX1_spans_6 3 rfl rfl)
theorem dX1_spans_141 : decode cX1_spans 141 = .ok (.goto 4, 3) := dk_167 0 4 (dk_at dksX1_spans_6 4 rfl rfl)
theorem dX1_spans_144 : decode cX1_spans 144 = .ok (.iconst 0, 1) := dk_3 (dk_at dksX1_spans_6 7 rfl rfl)
theorem dX1_spans_145 : decode cX1_spans 145 = .ok (.invokestatic 184, 3) := dk_184 0 184 (dk_at dksX1_spans_6 8 rfl rfl)
theorem dX1_spans_148 : decode cX1_spans 148 = .ok (.aload_n 3, 1) := dk_45 (dk_at dksX1_spans_6 11 rfl rfl)
theorem dX1_spans_149 : decode cX1_spans 149 = .ok (.iload_n 2, 1) := dk_28 (dk_at dksX1_spans_6 12 rfl rfl)
theorem dX1_spans_150 : decode cX1_spans 150 = .ok (.invokevirtual 354, 3) := dk_182 1 98 (dk_at dksX1_spans_6 13 rfl rfl)
theorem dX1_spans_153 : decode cX1_spans 153 = .ok (.checkcast 324, 3) := dk_192 1 68 (dk_at dksX1_spans_6 16 rfl rfl)
theorem dX1_spans_156 : decode cX1_spans 156 = .ok (.invokevirtual 347, 3) := dk_182 1 91 (dk_at dksX1_spans_6 19 rfl rfl)
theorem dX1_spans_159 : decode cX1_spans 159 = .ok (.ireturn, 1) := dk_172 (dk_at dksX1_spans_6 22 rfl rfl)
abbrev cX1_sample : ByteArray := prog_1_method_18_code
def yX1_sample : MethodName := ⟨RX1, "sample", "(I)I"⟩
def dkwX1_sample_1 : List UInt8 := [167, 0, 4, 3, 184, 0, 184, 42, 180, 0, 30, 27, 182, 1, 101, 172]
abbrev dktX1_sample_1 : List UInt8 := dkwX1_sample_1 ++ []
def dkwX1_sample_0 : List UInt8 := [27, 155, 0, 25, 27, 42, 180, 0, 30, 42, 180, 0, 30, 180, 0, 237, 182, 0, 240, 162, 0, 7, 4]
abbrev dktX1_sample_0 : List UInt8 := dkwX1_sample_0 ++ dktX1_sample_1
theorem dksX1_sample_0 : cX1_sample.data.toList.drop 0 = dktX1_sample_0 := by decide +kernel
theorem dksX1_sample_1 : cX1_sample.data.toList.drop 23 = dktX1_sample_1 := dk_seg dksX1_sample_0 23 rfl rfl
theorem dX1_sample_0 : decode cX1_sample 0 = .ok (.iload_n 1, 1) := dk_27 (dk_at dksX1_sample_0 0 rfl rfl)
theorem dX1_sample_1 : decode cX1_sample 1 = .ok (.ifCond .lt 25, 3) := dk_155 0 25 (dk_at dksX1_sample_0 1 rfl rfl)
theorem dX1_sample_4 : decode cX1_sample 4 = .ok (.iload_n 1, 1) := dk_27 (dk_at dksX1_sample_0 4 rfl rfl)
theorem dX1_sample_5 : decode cX1_sample 5 = .ok (.aload_n 0, 1) := dk_42 (dk_at dksX1_sample_0 5 rfl rfl)
theorem dX1_sample_6 : decode cX1_sample 6 = .ok (.getfield 30, 3) := dk_180 0 30 (dk_at dksX1_sample_0 6 rfl rfl)
theorem dX1_sample_9 : decode cX1_sample 9 = .ok (.aload_n 0, 1) := dk_42 (dk_at dksX1_sample_0 9 rfl rfl)
theorem dX1_sample_10 : decode cX1_sample 10 = .ok (.getfield 30, 3) := dk_180 0 30 (dk_at dksX1_sample_0 10 rfl rfl)
theorem dX1_sample_13 : decode cX1_sample 13 = .ok (.getfield 237, 3) := dk_180 0 237 (dk_at dksX1_sample_0 13 rfl rfl)
theorem dX1_sample_16 : decode cX1_sample 16 = .ok (.invokevirtual 240, 3) := dk_182 0 240 (dk_at dksX1_sample_0 16 rfl rfl)
theorem dX1_sample_19 : decode cX1_sample 19 = .ok (.if_icmp .ge 7, 3) := dk_162 0 7 (dk_at dksX1_sample_0 19 rfl rfl)
theorem dX1_sample_22 : decode cX1_sample 22 = .ok (.iconst 1, 1) := dk_4 (dk_at dksX1_sample_0 22 rfl rfl)
theorem dX1_sample_23 : decode cX1_sample 23 = .ok (.goto 4, 3) := dk_167 0 4 (dk_at dksX1_sample_1 0 rfl rfl)
theorem dX1_sample_26 : decode cX1_sample 26 = .ok (.iconst 0, 1) := dk_3 (dk_at dksX1_sample_1 3 rfl rfl)
theorem dX1_sample_27 : decode cX1_sample 27 = .ok (.invokestatic 184, 3) := dk_184 0 184 (dk_at dksX1_sample_1 4 rfl rfl)
theorem dX1_sample_30 : decode cX1_sample 30 = .ok (.aload_n 0, 1) := dk_42 (dk_at dksX1_sample_1 7 rfl rfl)
theorem dX1_sample_31 : decode cX1_sample 31 = .ok (.getfield 30, 3) := dk_180 0 30 (dk_at dksX1_sample_1 8 rfl rfl)
theorem dX1_sample_34 : decode cX1_sample 34 = .ok (.iload_n 1, 1) := dk_27 (dk_at dksX1_sample_1 11 rfl rfl)
theorem dX1_sample_35 : decode cX1_sample 35 = .ok (.invokevirtual 357, 3) := dk_182 1 101 (dk_at dksX1_sample_1 12 rfl rfl)
theorem dX1_sample_38 : decode cX1_sample 38 = .ok (.ireturn, 1) := dk_172 (dk_at dksX1_sample_1 15 rfl rfl)
abbrev cX1_wander : ByteArray := prog_1_method_19_code
def yX1_wander : MethodName := ⟨RX1, "wander", "(I)I"⟩
def dkwX1_wander_12 : List UInt8 := [182, 1, 101, 100, 184, 1, 8, 62, 132, 4, 1, 167, 255, 18, 29, 172]
abbrev dktX1_wander_12 : List UInt8 := dkwX1_wander_12 ++ []
def dkwX1_wander_11 : List UInt8 := [182, 1, 91, 182, 1, 101, 42, 180, 0, 30, 42, 180, 0, 64, 182, 1, 117, 192, 1, 68, 182, 1, 91]
abbrev dktX1_wander_11 : List UInt8 := dkwX1_wander_11 ++ dktX1_wander_12
def dkwX1_wander_10 : List UInt8 := [42, 180, 0, 64, 182, 1, 120, 87, 29, 42, 180, 0, 30, 42, 180, 0, 60, 182, 1, 117, 192, 1, 68]
abbrev dktX1_wander_10 : List UInt8 := dkwX1_wander_10 ++ dktX1_wander_11
def dkwX1_wander_9 : List UInt8 := [182, 1, 120, 87, 42, 180, 0, 64, 182, 1, 117, 192, 1, 68, 182, 1, 91, 21, 4, 27, 100, 163, 0, 11]
abbrev dktX1_wander_9 : List UInt8 := dkwX1_wander_9 ++ dktX1_wander_10
def dkwX1_wander_8 : List UInt8 := [180, 0, 60, 182, 1, 117, 192, 1, 68, 182, 1, 91, 21, 4, 27, 100, 163, 0, 11, 42, 180, 0, 60]
abbrev dktX1_wander_8 : List UInt8 := dkwX1_wander_8 ++ dktX1_wander_9
def dkwX1_wander_7 : List UInt8 := [180, 0, 60, 21, 4, 184, 1, 67, 182, 1, 116, 42, 180, 0, 64, 21, 4, 184, 1, 67, 182, 1, 116, 42]
abbrev dktX1_wander_7 : List UInt8 := dkwX1_wander_7 ++ dktX1_wander_8
def dkwX1_wander_6 : List UInt8 := [182, 1, 91, 182, 1, 101, 21, 5, 161, 0, 14, 42, 180, 0, 64, 182, 1, 113, 87, 167, 255, 213, 42]
abbrev dktX1_wander_6 : List UInt8 := dkwX1_wander_6 ++ dktX1_wander_7
def dkwX1_wander_5 : List UInt8 := [180, 0, 64, 182, 1, 107, 154, 0, 39, 42, 180, 0, 30, 42, 180, 0, 64, 182, 1, 110, 192, 1, 68]
abbrev dktX1_wander_5 : List UInt8 := dkwX1_wander_5 ++ dktX1_wander_6
def dkwX1_wander_4 : List UInt8 := [182, 1, 91, 182, 1, 101, 21, 5, 163, 0, 14, 42, 180, 0, 60, 182, 1, 113, 87, 167, 255, 213, 42]
abbrev dktX1_wander_4 : List UInt8 := dkwX1_wander_4 ++ dktX1_wander_5
def dkwX1_wander_3 : List UInt8 := [180, 0, 60, 182, 1, 107, 154, 0, 39, 42, 180, 0, 30, 42, 180, 0, 60, 182, 1, 110, 192, 1, 68]
abbrev dktX1_wander_3 : List UInt8 := dkwX1_wander_3 ++ dktX1_wander_4
def dkwX1_wander_2 : List UInt8 := [182, 1, 104, 3, 54, 4, 21, 4, 28, 162, 0, 238, 42, 180, 0, 30, 21, 4, 182, 1, 101, 54, 5, 42]
abbrev dktX1_wander_2 : List UInt8 := dkwX1_wander_2 ++ dktX1_wander_3
def dkwX1_wander_1 : List UInt8 := [182, 0, 240, 61, 28, 5, 162, 0, 5, 2, 172, 3, 62, 42, 180, 0, 60, 182, 1, 104, 42, 180, 0, 64]
abbrev dktX1_wander_1 : List UInt8 := dkwX1_wander_1 ++ dktX1_wander_2
def dkwX1_wander_0 : List UInt8 := [27, 5, 17, 0, 128, 184, 0, 180, 184, 0, 137, 42, 180, 0, 30, 42, 180, 0, 30, 180, 0, 237]
abbrev dktX1_wander_0 : List UInt8 := dkwX1_wander_0 ++ dktX1_wander_1
theorem dksX1_wander_0 : cX1_wander.data.toList.drop 0 = dktX1_wander_0 := by decide +kernel
theorem dksX1_wander_1 : cX1_wander.data.toList.drop 22 = dktX1_wander_1 := dk_seg dksX1_wander_0 22 rfl rfl
theorem dksX1_wander_2 : cX1_wander.data.toList.drop 46 = dktX1_wander_2 := dk_seg dksX1_wander_1 24 rfl rfl
theorem dksX1_wander_3 : cX1_wander.data.toList.drop 70 = dktX1_wander_3 := dk_seg dksX1_wander_2 24 rfl rfl
theorem dksX1_wander_4 : cX1_wander.data.toList.drop 93 = dktX1_wander_4 := dk_seg dksX1_wander_3 23 rfl rfl
theorem dksX1_wander_5 : cX1_wander.data.toList.drop 116 = dktX1_wander_5 := dk_seg dksX1_wander_4 23 rfl rfl
theorem dksX1_wander_6 : cX1_wander.data.toList.drop 139 = dktX1_wander_6 := dk_seg dksX1_wander_5 23 rfl rfl
theorem dksX1_wander_7 : cX1_wander.data.toList.drop 162 = dktX1_wander_7 := dk_seg dksX1_wander_6 23 rfl rfl
theorem dksX1_wander_8 : cX1_wander.data.toList.drop 186 = dktX1_wander_8 := dk_seg dksX1_wander_7 24 rfl rfl
theorem dksX1_wander_9 : cX1_wander.data.toList.drop 209 = dktX1_wander_9 := dk_seg dksX1_wander_8 23 rfl rfl
theorem dksX1_wander_10 : cX1_wander.data.toList.drop 233 = dktX1_wander_10 := dk_seg dksX1_wander_9 24 rfl rfl
theorem dksX1_wander_11 : cX1_wander.data.toList.drop 256 = dktX1_wander_11 := dk_seg dksX1_wander_10 23 rfl rfl
theorem dksX1_wander_12 : cX1_wander.data.toList.drop 279 = dktX1_wander_12 := dk_seg dksX1_wander_11 23 rfl rfl
theorem dX1_wander_0 : decode cX1_wander 0 = .ok (.iload_n 1, 1) := dk_27 (dk_at dksX1_wander_0 0 rfl rfl)
theorem dX1_wander_1 : decode cX1_wander 1 = .ok (.iconst 2, 1) := dk_5 (dk_at dksX1_wander_0 1 rfl rfl)
theorem dX1_wander_2 : decode cX1_wander 2 = .ok (.sipush 128, 3) := dk_17 0 128 (dk_at dksX1_wander_0 2 rfl rfl)
theorem dX1_wander_5 : decode cX1_wander 5 = .ok (.invokestatic 180, 3) := dk_184 0 180 (dk_at dksX1_wander_0 5 rfl rfl)
theorem dX1_wander_8 : decode cX1_wander 8 = .ok (.invokestatic 137, 3) := dk_184 0 137 (dk_at dksX1_wander_0 8 rfl rfl)
theorem dX1_wander_11 : decode cX1_wander 11 = .ok (.aload_n 0, 1) := dk_42 (dk_at dksX1_wander_0 11 rfl rfl)
theorem dX1_wander_12 : decode cX1_wander 12 = .ok (.getfield 30, 3) := dk_180 0 30 (dk_at dksX1_wander_0 12 rfl rfl)
theorem dX1_wander_15 : decode cX1_wander 15 = .ok (.aload_n 0, 1) := dk_42 (dk_at dksX1_wander_0 15 rfl rfl)
theorem dX1_wander_16 : decode cX1_wander 16 = .ok (.getfield 30, 3) := dk_180 0 30 (dk_at dksX1_wander_0 16 rfl rfl)
theorem dX1_wander_19 : decode cX1_wander 19 = .ok (.getfield 237, 3) := dk_180 0 237 (dk_at dksX1_wander_0 19 rfl rfl)
theorem dX1_wander_22 : decode cX1_wander 22 = .ok (.invokevirtual 240, 3) := dk_182 0 240 (dk_at dksX1_wander_1 0 rfl rfl)
theorem dX1_wander_25 : decode cX1_wander 25 = .ok (.istore_n 2, 1) := dk_61 (dk_at dksX1_wander_1 3 rfl rfl)
theorem dX1_wander_26 : decode cX1_wander 26 = .ok (.iload_n 2, 1) := dk_28 (dk_at dksX1_wander_1 4 rfl rfl)
theorem dX1_wander_27 : decode cX1_wander 27 = .ok (.iconst 2, 1) := dk_5 (dk_at dksX1_wander_1 5 rfl rfl)
theorem dX1_wander_28 : decode cX1_wander 28 = .ok (.if_icmp .ge 5, 3) := dk_162 0 5 (dk_at dksX1_wander_1 6 rfl rfl)
theorem dX1_wander_31 : decode cX1_wander 31 = .ok (.iconst (-1), 1) := dk_2 (dk_at dksX1_wander_1 9 rfl rfl)
theorem dX1_wander_32 : decode cX1_wander 32 = .ok (.ireturn, 1) := dk_172 (dk_at dksX1_wander_1 10 rfl rfl)
theorem dX1_wander_33 : decode cX1_wander 33 = .ok (.iconst 0, 1) := dk_3 (dk_at dksX1_wander_1 11 rfl rfl)
theorem dX1_wander_34 : decode cX1_wander 34 = .ok (.istore_n 3, 1) := dk_62 (dk_at dksX1_wander_1 12 rfl rfl)
theorem dX1_wander_35 : decode cX1_wander 35 = .ok (.aload_n 0, 1) := dk_42 (dk_at dksX1_wander_1 13 rfl rfl)
theorem dX1_wander_36 : decode cX1_wander 36 = .ok (.getfield 60, 3) := dk_180 0 60 (dk_at dksX1_wander_1 14 rfl rfl)
theorem dX1_wander_39 : decode cX1_wander 39 = .ok (.invokevirtual 360, 3) := dk_182 1 104 (dk_at dksX1_wander_1 17 rfl rfl)
theorem dX1_wander_42 : decode cX1_wander 42 = .ok (.aload_n 0, 1) := dk_42 (dk_at dksX1_wander_1 20 rfl rfl)
theorem dX1_wander_43 : decode cX1_wander 43 = .ok (.getfield 64, 3) := dk_180 0 64 (dk_at dksX1_wander_1 21 rfl rfl)
theorem dX1_wander_46 : decode cX1_wander 46 = .ok (.invokevirtual 360, 3) := dk_182 1 104 (dk_at dksX1_wander_2 0 rfl rfl)
theorem dX1_wander_49 : decode cX1_wander 49 = .ok (.iconst 0, 1) := dk_3 (dk_at dksX1_wander_2 3 rfl rfl)
theorem dX1_wander_50 : decode cX1_wander 50 = .ok (.istore 4, 2) := dk_54 4 (dk_at dksX1_wander_2 4 rfl rfl)
theorem dX1_wander_52 : decode cX1_wander 52 = .ok (.iload 4, 2) := dk_21 4 (dk_at dksX1_wander_2 6 rfl rfl)
theorem dX1_wander_54 : decode cX1_wander 54 = .ok (.iload_n 2, 1) := dk_28 (dk_at dksX1_wander_2 8 rfl rfl)
theorem dX1_wander_55 : decode cX1_wander 55 = .ok (.if_icmp .ge 238, 3) := dk_162 0 238 (dk_at dksX1_wander_2 9 rfl rfl)
theorem dX1_wander_58 : decode cX1_wander 58 = .ok (.aload_n 0, 1) := dk_42 (dk_at dksX1_wander_2 12 rfl rfl)
theorem dX1_wander_59 : decode cX1_wander 59 = .ok (.getfield 30, 3) := dk_180 0 30 (dk_at dksX1_wander_2 13 rfl rfl)
theorem dX1_wander_62 : decode cX1_wander 62 = .ok (.iload 4, 2) := dk_21 4 (dk_at dksX1_wander_2 16 rfl rfl)
theorem dX1_wander_64 : decode cX1_wander 64 = .ok (.invokevirtual 357, 3) := dk_182 1 101 (dk_at dksX1_wander_2 18 rfl rfl)
theorem dX1_wander_67 : decode cX1_wander 67 = .ok (.istore 5, 2) := dk_54 5 (dk_at dksX1_wander_2 21 rfl rfl)
theorem dX1_wander_69 : decode cX1_wander 69 = .ok (.aload_n 0, 1) := dk_42 (dk_at dksX1_wander_2 23 rfl rfl)
theorem dX1_wander_70 : decode cX1_wander 70 = .ok (.getfield 60, 3) := dk_180 0 60 (dk_at dksX1_wander_3 0 rfl rfl)
theorem dX1_wander_73 : decode cX1_wander 73 = .ok (.invokevirtual 363, 3) := dk_182 1 107 (dk_at dksX1_wander_3 3 rfl rfl)
theorem dX1_wander_76 : decode cX1_wander 76 = .ok (.ifCond .ne 39, 3) := dk_154 0 39 (dk_at dksX1_wander_3 6 rfl rfl)
theorem dX1_wander_79 : decode cX1_wander 79 = .ok (.aload_n 0, 1) := dk_42 (dk_at dksX1_wander_3 9 rfl rfl)
theorem dX1_wander_80 : decode cX1_wander 80 = .ok (.getfield 30, 3) := dk_180 0 30 (dk_at dksX1_wander_3 10 rfl rfl)
theorem dX1_wander_83 : decode cX1_wander 83 = .ok (.aload_n 0, 1) := dk_42 (dk_at dksX1_wander_3 13 rfl rfl)
theorem dX1_wander_84 : decode cX1_wander 84 = .ok (.getfield 60, 3) := dk_180 0 60 (dk_at dksX1_wander_3 14 rfl rfl)
theorem dX1_wander_87 : decode cX1_wander 87 = .ok (.invokevirtual 366, 3) := dk_182 1 110 (dk_at dksX1_wander_3 17 rfl rfl)
theorem dX1_wander_90 : decode cX1_wander 90 = .ok (.checkcast 324, 3) := dk_192 1 68 (dk_at dksX1_wander_3 20 rfl rfl)
theorem dX1_wander_93 : decode cX1_wander 93 = .ok (.invokevirtual 347, 3) := dk_182 1 91 (dk_at dksX1_wander_4 0 rfl rfl)
theorem dX1_wander_96 : decode cX1_wander 96 = .ok (.invokevirtual 357, 3) := dk_182 1 101 (dk_at dksX1_wander_4 3 rfl rfl)
theorem dX1_wander_99 : decode cX1_wander 99 = .ok (.iload 5, 2) := dk_21 5 (dk_at dksX1_wander_4 6 rfl rfl)
theorem dX1_wander_101 : decode cX1_wander 101 = .ok (.if_icmp .gt 14, 3) := dk_163 0 14 (dk_at dksX1_wander_4 8 rfl rfl)
theorem dX1_wander_104 : decode cX1_wander 104 = .ok (.aload_n 0, 1) := dk_42 (dk_at dksX1_wander_4 11 rfl rfl)
theorem dX1_wander_105 : decode cX1_wander 105 = .ok (.getfield 60, 3) := dk_180 0 60 (dk_at dksX1_wander_4 12 rfl rfl)
theorem dX1_wander_108 : decode cX1_wander 108 = .ok (.invokevirtual 369, 3) := dk_182 1 113 (dk_at dksX1_wander_4 15 rfl rfl)
theorem dX1_wander_111 : decode cX1_wander 111 = .ok (.pop, 1) := dk_87 (dk_at dksX1_wander_4 18 rfl rfl)
theorem dX1_wander_112 : decode cX1_wander 112 = .ok (.goto (-43), 3) := dk_167 255 213 (dk_at dksX1_wander_4 19 rfl rfl)
theorem dX1_wander_115 : decode cX1_wander 115 = .ok (.aload_n 0, 1) := dk_42 (dk_at dksX1_wander_4 22 rfl rfl)
theorem dX1_wander_116 : decode cX1_wander 116 = .ok (.getfield 64, 3) := dk_180 0 64 (dk_at dksX1_wander_5 0 rfl rfl)
theorem dX1_wander_119 : decode cX1_wander 119 = .ok (.invokevirtual 363, 3) := dk_182 1 107 (dk_at dksX1_wander_5 3 rfl rfl)
theorem dX1_wander_122 : decode cX1_wander 122 = .ok (.ifCond .ne 39, 3) := dk_154 0 39 (dk_at dksX1_wander_5 6 rfl rfl)
theorem dX1_wander_125 : decode cX1_wander 125 = .ok (.aload_n 0, 1) := dk_42 (dk_at dksX1_wander_5 9 rfl rfl)
theorem dX1_wander_126 : decode cX1_wander 126 = .ok (.getfield 30, 3) := dk_180 0 30 (dk_at dksX1_wander_5 10 rfl rfl)
theorem dX1_wander_129 : decode cX1_wander 129 = .ok (.aload_n 0, 1) := dk_42 (dk_at dksX1_wander_5 13 rfl rfl)
theorem dX1_wander_130 : decode cX1_wander 130 = .ok (.getfield 64, 3) := dk_180 0 64 (dk_at dksX1_wander_5 14 rfl rfl)
theorem dX1_wander_133 : decode cX1_wander 133 = .ok (.invokevirtual 366, 3) := dk_182 1 110 (dk_at dksX1_wander_5 17 rfl rfl)
theorem dX1_wander_136 : decode cX1_wander 136 = .ok (.checkcast 324, 3) := dk_192 1 68 (dk_at dksX1_wander_5 20 rfl rfl)
theorem dX1_wander_139 : decode cX1_wander 139 = .ok (.invokevirtual 347, 3) := dk_182 1 91 (dk_at dksX1_wander_6 0 rfl rfl)
theorem dX1_wander_142 : decode cX1_wander 142 = .ok (.invokevirtual 357, 3) := dk_182 1 101 (dk_at dksX1_wander_6 3 rfl rfl)
theorem dX1_wander_145 : decode cX1_wander 145 = .ok (.iload 5, 2) := dk_21 5 (dk_at dksX1_wander_6 6 rfl rfl)
theorem dX1_wander_147 : decode cX1_wander 147 = .ok (.if_icmp .lt 14, 3) := dk_161 0 14 (dk_at dksX1_wander_6 8 rfl rfl)
theorem dX1_wander_150 : decode cX1_wander 150 = .ok (.aload_n 0, 1) := dk_42 (dk_at dksX1_wander_6 11 rfl rfl)
theorem dX1_wander_151 : decode cX1_wander 151 = .ok (.getfield 64, 3) := dk_180 0 64 (dk_at dksX1_wander_6 12 rfl rfl)
theorem dX1_wander_154 : decode cX1_wander 154 = .ok (.invokevirtual 369, 3) := dk_182 1 113 (dk_at dksX1_wander_6 15 rfl rfl)
theorem dX1_wander_157 : decode cX1_wander 157 = .ok (.pop, 1) := dk_87 (dk_at dksX1_wander_6 18 rfl rfl)
theorem dX1_wander_158 : decode cX1_wander 158 = .ok (.goto (-43), 3) := dk_167 255 213 (dk_at dksX1_wander_6 19 rfl rfl)
theorem dX1_wander_161 : decode cX1_wander 161 = .ok (.aload_n 0, 1) := dk_42 (dk_at dksX1_wander_6 22 rfl rfl)
theorem dX1_wander_162 : decode cX1_wander 162 = .ok (.getfield 60, 3) := dk_180 0 60 (dk_at dksX1_wander_7 0 rfl rfl)
theorem dX1_wander_165 : decode cX1_wander 165 = .ok (.iload 4, 2) := dk_21 4 (dk_at dksX1_wander_7 3 rfl rfl)
theorem dX1_wander_167 : decode cX1_wander 167 = .ok (.invokestatic 323, 3) := dk_184 1 67 (dk_at dksX1_wander_7 5 rfl rfl)
theorem dX1_wander_170 : decode cX1_wander 170 = .ok (.invokevirtual 372, 3) := dk_182 1 116 (dk_at dksX1_wander_7 8 rfl rfl)
theorem dX1_wander_173 : decode cX1_wander 173 = .ok (.aload_n 0, 1) := dk_42 (dk_at dksX1_wander_7 11 rfl rfl)
theorem dX1_wander_174 : decode cX1_wander 174 = .ok (.getfield 64, 3) := dk_180 0 64 (dk_at dksX1_wander_7 12 rfl rfl)
theorem dX1_wander_177 : decode cX1_wander 177 = .ok (.iload 4, 2) := dk_21 4 (dk_at dksX1_wander_7 15 rfl rfl)
theorem dX1_wander_179 : decode cX1_wander 179 = .ok (.invokestatic 323, 3) := dk_184 1 67 (dk_at dksX1_wander_7 17 rfl rfl)
theorem dX1_wander_182 : decode cX1_wander 182 = .ok (.invokevirtual 372, 3) := dk_182 1 116 (dk_at dksX1_wander_7 20 rfl rfl)
theorem dX1_wander_185 : decode cX1_wander 185 = .ok (.aload_n 0, 1) := dk_42 (dk_at dksX1_wander_7 23 rfl rfl)
theorem dX1_wander_186 : decode cX1_wander 186 = .ok (.getfield 60, 3) := dk_180 0 60 (dk_at dksX1_wander_8 0 rfl rfl)
theorem dX1_wander_189 : decode cX1_wander 189 = .ok (.invokevirtual 373, 3) := dk_182 1 117 (dk_at dksX1_wander_8 3 rfl rfl)
theorem dX1_wander_192 : decode cX1_wander 192 = .ok (.checkcast 324, 3) := dk_192 1 68 (dk_at dksX1_wander_8 6 rfl rfl)
theorem dX1_wander_195 : decode cX1_wander 195 = .ok (.invokevirtual 347, 3) := dk_182 1 91 (dk_at dksX1_wander_8 9 rfl rfl)
theorem dX1_wander_198 : decode cX1_wander 198 = .ok (.iload 4, 2) := dk_21 4 (dk_at dksX1_wander_8 12 rfl rfl)
theorem dX1_wander_200 : decode cX1_wander 200 = .ok (.iload_n 1, 1) := dk_27 (dk_at dksX1_wander_8 14 rfl rfl)
theorem dX1_wander_201 : decode cX1_wander 201 = .ok (.isub, 1) := dk_100 (dk_at dksX1_wander_8 15 rfl rfl)
theorem dX1_wander_202 : decode cX1_wander 202 = .ok (.if_icmp .gt 11, 3) := dk_163 0 11 (dk_at dksX1_wander_8 16 rfl rfl)
theorem dX1_wander_205 : decode cX1_wander 205 = .ok (.aload_n 0, 1) := dk_42 (dk_at dksX1_wander_8 19 rfl rfl)
theorem dX1_wander_206 : decode cX1_wander 206 = .ok (.getfield 60, 3) := dk_180 0 60 (dk_at dksX1_wander_8 20 rfl rfl)
theorem dX1_wander_209 : decode cX1_wander 209 = .ok (.invokevirtual 376, 3) := dk_182 1 120 (dk_at dksX1_wander_9 0 rfl rfl)
theorem dX1_wander_212 : decode cX1_wander 212 = .ok (.pop, 1) := dk_87 (dk_at dksX1_wander_9 3 rfl rfl)
theorem dX1_wander_213 : decode cX1_wander 213 = .ok (.aload_n 0, 1) := dk_42 (dk_at dksX1_wander_9 4 rfl rfl)
theorem dX1_wander_214 : decode cX1_wander 214 = .ok (.getfield 64, 3) := dk_180 0 64 (dk_at dksX1_wander_9 5 rfl rfl)
theorem dX1_wander_217 : decode cX1_wander 217 = .ok (.invokevirtual 373, 3) := dk_182 1 117 (dk_at dksX1_wander_9 8 rfl rfl)
theorem dX1_wander_220 : decode cX1_wander 220 = .ok (.checkcast 324, 3) := dk_192 1 68 (dk_at dksX1_wander_9 11 rfl rfl)
theorem dX1_wander_223 : decode cX1_wander 223 = .ok (.invokevirtual 347, 3) := dk_182 1 91 (dk_at dksX1_wander_9 14 rfl rfl)
theorem dX1_wander_226 : decode cX1_wander 226 = .ok (.iload 4, 2) := dk_21 4 (dk_at dksX1_wander_9 17 rfl rfl)
theorem dX1_wander_228 : decode cX1_wander 228 = .ok (.iload_n 1, 1) := dk_27 (dk_at dksX1_wander_9 19 rfl rfl)
theorem dX1_wander_229 : decode cX1_wander 229 = .ok (.isub, 1) := dk_100 (dk_at dksX1_wander_9 20 rfl rfl)
theorem dX1_wander_230 : decode cX1_wander 230 = .ok (.if_icmp .gt 11, 3) := dk_163 0 11 (dk_at dksX1_wander_9 21 rfl rfl)
theorem dX1_wander_233 : decode cX1_wander 233 = .ok (.aload_n 0, 1) := dk_42 (dk_at dksX1_wander_10 0 rfl rfl)
theorem dX1_wander_234 : decode cX1_wander 234 = .ok (.getfield 64, 3) := dk_180 0 64 (dk_at dksX1_wander_10 1 rfl rfl)
theorem dX1_wander_237 : decode cX1_wander 237 = .ok (.invokevirtual 376, 3) := dk_182 1 120 (dk_at dksX1_wander_10 4 rfl rfl)
theorem dX1_wander_240 : decode cX1_wander 240 = .ok (.pop, 1) := dk_87 (dk_at dksX1_wander_10 7 rfl rfl)
theorem dX1_wander_241 : decode cX1_wander 241 = .ok (.iload_n 3, 1) := dk_29 (dk_at dksX1_wander_10 8 rfl rfl)
theorem dX1_wander_242 : decode cX1_wander 242 = .ok (.aload_n 0, 1) := dk_42 (dk_at dksX1_wander_10 9 rfl rfl)
theorem dX1_wander_243 : decode cX1_wander 243 = .ok (.getfield 30, 3) := dk_180 0 30 (dk_at dksX1_wander_10 10 rfl rfl)
theorem dX1_wander_246 : decode cX1_wander 246 = .ok (.aload_n 0, 1) := dk_42 (dk_at dksX1_wander_10 13 rfl rfl)
theorem dX1_wander_247 : decode cX1_wander 247 = .ok (.getfield 60, 3) := dk_180 0 60 (dk_at dksX1_wander_10 14 rfl rfl)
theorem dX1_wander_250 : decode cX1_wander 250 = .ok (.invokevirtual 373, 3) := dk_182 1 117 (dk_at dksX1_wander_10 17 rfl rfl)
theorem dX1_wander_253 : decode cX1_wander 253 = .ok (.checkcast 324, 3) := dk_192 1 68 (dk_at dksX1_wander_10 20 rfl rfl)
theorem dX1_wander_256 : decode cX1_wander 256 = .ok (.invokevirtual 347, 3) := dk_182 1 91 (dk_at dksX1_wander_11 0 rfl rfl)
theorem dX1_wander_259 : decode cX1_wander 259 = .ok (.invokevirtual 357, 3) := dk_182 1 101 (dk_at dksX1_wander_11 3 rfl rfl)
theorem dX1_wander_262 : decode cX1_wander 262 = .ok (.aload_n 0, 1) := dk_42 (dk_at dksX1_wander_11 6 rfl rfl)
theorem dX1_wander_263 : decode cX1_wander 263 = .ok (.getfield 30, 3) := dk_180 0 30 (dk_at dksX1_wander_11 7 rfl rfl)
theorem dX1_wander_266 : decode cX1_wander 266 = .ok (.aload_n 0, 1) := dk_42 (dk_at dksX1_wander_11 10 rfl rfl)
theorem dX1_wander_267 : decode cX1_wander 267 = .ok (.getfield 64, 3) := dk_180 0 64 (dk_at dksX1_wander_11 11 rfl rfl)
theorem dX1_wander_270 : decode cX1_wander 270 = .ok (.invokevirtual 373, 3) := dk_182 1 117 (dk_at dksX1_wander_11 14 rfl rfl)
theorem dX1_wander_273 : decode cX1_wander 273 = .ok (.checkcast 324, 3) := dk_192 1 68 (dk_at dksX1_wander_11 17 rfl rfl)
theorem dX1_wander_276 : decode cX1_wander 276 = .ok (.invokevirtual 347, 3) := dk_182 1 91 (dk_at dksX1_wander_11 20 rfl rfl)
theorem dX1_wander_279 : decode cX1_wander 279 = .ok (.invokevirtual 357, 3) := dk_182 1 101 (dk_at dksX1_wander_12 0 rfl rfl)
theorem dX1_wander_282 : decode cX1_wander 282 = .ok (.isub, 1) := dk_100 (dk_at dksX1_wander_12 3 rfl rfl)
theorem dX1_wander_283 : decode cX1_wander 283 = .ok (.invokestatic 264, 3) := dk_184 1 8 (dk_at dksX1_wander_12 4 rfl rfl)
theorem dX1_wander_286 : decode cX1_wander 286 = .ok (.istore_n 3, 1) := dk_62 (dk_at dksX1_wander_12 7 rfl rfl)
theorem dX1_wander_287 : decode cX1_wander 287 = .ok (.iinc 4 1, 3) := dk_132 4 1 (dk_at dksX1_wander_12 8 rfl rfl)
theorem dX1_wander_290 : decode cX1_wander 290 = .ok (.goto (-238), 3) := dk_167 255 18 (dk_at dksX1_wander_12 11 rfl rfl)
theorem dX1_wander_293 : decode cX1_wander 293 = .ok (.iload_n 3, 1) := dk_29 (dk_at dksX1_wander_12 14 rfl rfl)
theorem dX1_wander_294 : decode cX1_wander 294 = .ok (.ireturn, 1) := dk_172 (dk_at dksX1_wander_12 15 rfl rfl)
abbrev cX1_turn : ByteArray := prog_1_method_26_code
def yX1_turn : MethodName := ⟨RX1, "turn", "(II)I"⟩
def dkwX1_turn_6 : List UInt8 := [167, 0, 11, 42, 180, 0, 30, 28, 181, 0, 243, 29, 172]
abbrev dktX1_turn_6 : List UInt8 := dkwX1_turn_6 ++ []
def dkwX1_turn_5 : List UInt8 := [180, 0, 30, 28, 181, 0, 255, 167, 0, 27, 27, 4, 160, 0, 14, 42, 180, 0, 30, 28, 181, 1, 14]
abbrev dktX1_turn_5 : List UInt8 := dkwX1_turn_5 ++ dktX1_turn_6
def dkwX1_turn_4 : List UInt8 := [159, 0, 7, 4, 167, 0, 4, 3, 182, 1, 137, 154, 0, 7, 17, 39, 16, 172, 27, 154, 0, 14, 42]
abbrev dktX1_turn_4 : List UInt8 := dkwX1_turn_4 ++ dktX1_turn_5
def dkwX1_turn_3 : List UInt8 := [184, 0, 180, 167, 0, 10, 28, 4, 16, 64, 184, 0, 180, 54, 4, 42, 21, 4, 153, 0, 12, 29, 28]
abbrev dktX1_turn_3 : List UInt8 := dkwX1_turn_3 ++ dktX1_turn_4
def dkwX1_turn_2 : List UInt8 := [154, 0, 14, 28, 16, 157, 16, 99, 184, 0, 180, 167, 0, 24, 27, 4, 160, 0, 12, 28, 3, 5]
abbrev dktX1_turn_2 : List UInt8 := dkwX1_turn_2 ++ dktX1_turn_3
def dkwX1_turn_1 : List UInt8 := [4, 160, 0, 13, 42, 180, 0, 30, 180, 1, 14, 167, 0, 10, 42, 180, 0, 30, 180, 0, 243, 62, 27]
abbrev dktX1_turn_1 : List UInt8 := dkwX1_turn_1 ++ dktX1_turn_2
def dkwX1_turn_0 : List UInt8 := [27, 3, 5, 184, 0, 180, 184, 0, 184, 27, 154, 0, 13, 42, 180, 0, 30, 180, 0, 255, 167, 0, 25, 27]
abbrev dktX1_turn_0 : List UInt8 := dkwX1_turn_0 ++ dktX1_turn_1
theorem dksX1_turn_0 : cX1_turn.data.toList.drop 0 = dktX1_turn_0 := by decide +kernel
theorem dksX1_turn_1 : cX1_turn.data.toList.drop 24 = dktX1_turn_1 := dk_seg dksX1_turn_0 24 rfl rfl
theorem dksX1_turn_2 : cX1_turn.data.toList.drop 47 = dktX1_turn_2 := dk_seg dksX1_turn_1 23 rfl rfl
theorem dksX1_turn_3 : cX1_turn.data.toList.drop 69 = dktX1_turn_3 := dk_seg dksX1_turn_2 22 rfl rfl
theorem dksX1_turn_4 : cX1_turn.data.toList.drop 92 = dktX1_turn_4 := dk_seg dksX1_turn_3 23 rfl rfl
theorem dksX1_turn_5 : cX1_turn.data.toList.drop 115 = dktX1_turn_5 := dk_seg dksX1_turn_4 23 rfl rfl
theorem dksX1_turn_6 : cX1_turn.data.toList.drop 138 = dktX1_turn_6 := dk_seg dksX1_turn_5 23 rfl rfl
theorem dX1_turn_0 : decode cX1_turn 0 = .ok (.iload_n 1, 1) := dk_27 (dk_at dksX1_turn_0 0 rfl rfl)
theorem dX1_turn_1 : decode cX1_turn 1 = .ok (.iconst 0, 1) := dk_3 (dk_at dksX1_turn_0 1 rfl rfl)
theorem dX1_turn_2 : decode cX1_turn 2 = .ok (.iconst 2, 1) := dk_5 (dk_at dksX1_turn_0 2 rfl rfl)
theorem dX1_turn_3 : decode cX1_turn 3 = .ok (.invokestatic 180, 3) := dk_184 0 180 (dk_at dksX1_turn_0 3 rfl rfl)
theorem dX1_turn_6 : decode cX1_turn 6 = .ok (.invokestatic 184, 3) := dk_184 0 184 (dk_at dksX1_turn_0 6 rfl rfl)
theorem dX1_turn_9 : decode cX1_turn 9 = .ok (.iload_n 1, 1) := dk_27 (dk_at dksX1_turn_0 9 rfl rfl)
theorem dX1_turn_10 : decode cX1_turn 10 = .ok (.ifCond .ne 13, 3) := dk_154 0 13 (dk_at dksX1_turn_0 10 rfl rfl)
theorem dX1_turn_13 : decode cX1_turn 13 = .ok (.aload_n 0, 1) := dk_42 (dk_at dksX1_turn_0 13 rfl rfl)
theorem dX1_turn_14 : decode cX1_turn 14 = .ok (.getfield 30, 3) := dk_180 0 30 (dk_at dksX1_turn_0 14 rfl rfl)
theorem dX1_turn_17 : decode cX1_turn 17 = .ok (.getfield 255, 3) := dk_180 0 255 (dk_at dksX1_turn_0 17 rfl rfl)
theorem dX1_turn_20 : decode cX1_turn 20 = .ok (.goto 25, 3) := dk_167 0 25 (dk_at dksX1_turn_0 20 rfl rfl)
theorem dX1_turn_23 : decode cX1_turn 23 = .ok (.iload_n 1, 1) := dk_27 (dk_at dksX1_turn_0 23 rfl rfl)
theorem dX1_turn_24 : decode cX1_turn 24 = .ok (.iconst 1, 1) := dk_4 (dk_at dksX1_turn_1 0 rfl rfl)
theorem dX1_turn_25 : decode cX1_turn 25 = .ok (.if_icmp .ne 13, 3) := dk_160 0 13 (dk_at dksX1_turn_1 1 rfl rfl)
theorem dX1_turn_28 : decode cX1_turn 28 = .ok (.aload_n 0, 1) := dk_42 (dk_at dksX1_turn_1 4 rfl rfl)
theorem dX1_turn_29 : decode cX1_turn 29 = .ok (.getfield 30, 3) := dk_180 0 30 (dk_at dksX1_turn_1 5 rfl rfl)
theorem dX1_turn_32 : decode cX1_turn 32 = .ok (.getfield 270, 3) := dk_180 1 14 (dk_at dksX1_turn_1 8 rfl rfl)
theorem dX1_turn_35 : decode cX1_turn 35 = .ok (.goto 10, 3) := dk_167 0 10 (dk_at dksX1_turn_1 11 rfl rfl)
theorem dX1_turn_38 : decode cX1_turn 38 = .ok (.aload_n 0, 1) := dk_42 (dk_at dksX1_turn_1 14 rfl rfl)
theorem dX1_turn_39 : decode cX1_turn 39 = .ok (.getfield 30, 3) := dk_180 0 30 (dk_at dksX1_turn_1 15 rfl rfl)
theorem dX1_turn_42 : decode cX1_turn 42 = .ok (.getfield 243, 3) := dk_180 0 243 (dk_at dksX1_turn_1 18 rfl rfl)
theorem dX1_turn_45 : decode cX1_turn 45 = .ok (.istore_n 3, 1) := dk_62 (dk_at dksX1_turn_1 21 rfl rfl)
theorem dX1_turn_46 : decode cX1_turn 46 = .ok (.iload_n 1, 1) := dk_27 (dk_at dksX1_turn_1 22 rfl rfl)
theorem dX1_turn_47 : decode cX1_turn 47 = .ok (.ifCond .ne 14, 3) := dk_154 0 14 (dk_at dksX1_turn_2 0 rfl rfl)
theorem dX1_turn_50 : decode cX1_turn 50 = .ok (.iload_n 2, 1) := dk_28 (dk_at dksX1_turn_2 3 rfl rfl)
theorem dX1_turn_51 : decode cX1_turn 51 = .ok (.bipush (-99), 2) := dk_16 157 (dk_at dksX1_turn_2 4 rfl rfl)
theorem dX1_turn_53 : decode cX1_turn 53 = .ok (.bipush 99, 2) := dk_16 99 (dk_at dksX1_turn_2 6 rfl rfl)
theorem dX1_turn_55 : decode cX1_turn 55 = .ok (.invokestatic 180, 3) := dk_184 0 180 (dk_at dksX1_turn_2 8 rfl rfl)
theorem dX1_turn_58 : decode cX1_turn 58 = .ok (.goto 24, 3) := dk_167 0 24 (dk_at dksX1_turn_2 11 rfl rfl)
theorem dX1_turn_61 : decode cX1_turn 61 = .ok (.iload_n 1, 1) := dk_27 (dk_at dksX1_turn_2 14 rfl rfl)
theorem dX1_turn_62 : decode cX1_turn 62 = .ok (.iconst 1, 1) := dk_4 (dk_at dksX1_turn_2 15 rfl rfl)
theorem dX1_turn_63 : decode cX1_turn 63 = .ok (.if_icmp .ne 12, 3) := dk_160 0 12 (dk_at dksX1_turn_2 16 rfl rfl)
theorem dX1_turn_66 : decode cX1_turn 66 = .ok (.iload_n 2, 1) := dk_28 (dk_at dksX1_turn_2 19 rfl rfl)
theorem dX1_turn_67 : decode cX1_turn 67 = .ok (.iconst 0, 1) := dk_3 (dk_at dksX1_turn_2 20 rfl rfl)
theorem dX1_turn_68 : decode cX1_turn 68 = .ok (.iconst 2, 1) := dk_5 (dk_at dksX1_turn_2 21 rfl rfl)
theorem dX1_turn_69 : decode cX1_turn 69 = .ok (.invokestatic 180, 3) := dk_184 0 180 (dk_at dksX1_turn_3 0 rfl rfl)
theorem dX1_turn_72 : decode cX1_turn 72 = .ok (.goto 10, 3) := dk_167 0 10 (dk_at dksX1_turn_3 3 rfl rfl)
theorem dX1_turn_75 : decode cX1_turn 75 = .ok (.iload_n 2, 1) := dk_28 (dk_at dksX1_turn_3 6 rfl rfl)
theorem dX1_turn_76 : decode cX1_turn 76 = .ok (.iconst 1, 1) := dk_4 (dk_at dksX1_turn_3 7 rfl rfl)
theorem dX1_turn_77 : decode cX1_turn 77 = .ok (.bipush 64, 2) := dk_16 64 (dk_at dksX1_turn_3 8 rfl rfl)
theorem dX1_turn_79 : decode cX1_turn 79 = .ok (.invokestatic 180, 3) := dk_184 0 180 (dk_at dksX1_turn_3 10 rfl rfl)
theorem dX1_turn_82 : decode cX1_turn 82 = .ok (.istore 4, 2) := dk_54 4 (dk_at dksX1_turn_3 13 rfl rfl)
theorem dX1_turn_84 : decode cX1_turn 84 = .ok (.aload_n 0, 1) := dk_42 (dk_at dksX1_turn_3 15 rfl rfl)
theorem dX1_turn_85 : decode cX1_turn 85 = .ok (.iload 4, 2) := dk_21 4 (dk_at dksX1_turn_3 16 rfl rfl)
theorem dX1_turn_87 : decode cX1_turn 87 = .ok (.ifCond .eq 12, 3) := dk_153 0 12 (dk_at dksX1_turn_3 18 rfl rfl)
theorem dX1_turn_90 : decode cX1_turn 90 = .ok (.iload_n 3, 1) := dk_29 (dk_at dksX1_turn_3 21 rfl rfl)
theorem dX1_turn_91 : decode cX1_turn 91 = .ok (.iload_n 2, 1) := dk_28 (dk_at dksX1_turn_3 22 rfl rfl)
theorem dX1_turn_92 : decode cX1_turn 92 = .ok (.if_icmp .eq 7, 3) := dk_159 0 7 (dk_at dksX1_turn_4 0 rfl rfl)
theorem dX1_turn_95 : decode cX1_turn 95 = .ok (.iconst 1, 1) := dk_4 (dk_at dksX1_turn_4 3 rfl rfl)
theorem dX1_turn_96 : decode cX1_turn 96 = .ok (.goto 4, 3) := dk_167 0 4 (dk_at dksX1_turn_4 4 rfl rfl)
theorem dX1_turn_99 : decode cX1_turn 99 = .ok (.iconst 0, 1) := dk_3 (dk_at dksX1_turn_4 7 rfl rfl)
theorem dX1_turn_100 : decode cX1_turn 100 = .ok (.invokevirtual 393, 3) := dk_182 1 137 (dk_at dksX1_turn_4 8 rfl rfl)
theorem dX1_turn_103 : decode cX1_turn 103 = .ok (.ifCond .ne 7, 3) := dk_154 0 7 (dk_at dksX1_turn_4 11 rfl rfl)
theorem dX1_turn_106 : decode cX1_turn 106 = .ok (.sipush 10000, 3) := dk_17 39 16 (dk_at dksX1_turn_4 14 rfl rfl)
theorem dX1_turn_109 : decode cX1_turn 109 = .ok (.ireturn, 1) := dk_172 (dk_at dksX1_turn_4 17 rfl rfl)
theorem dX1_turn_110 : decode cX1_turn 110 = .ok (.iload_n 1, 1) := dk_27 (dk_at dksX1_turn_4 18 rfl rfl)
theorem dX1_turn_111 : decode cX1_turn 111 = .ok (.ifCond .ne 14, 3) := dk_154 0 14 (dk_at dksX1_turn_4 19 rfl rfl)
theorem dX1_turn_114 : decode cX1_turn 114 = .ok (.aload_n 0, 1) := dk_42 (dk_at dksX1_turn_4 22 rfl rfl)
theorem dX1_turn_115 : decode cX1_turn 115 = .ok (.getfield 30, 3) := dk_180 0 30 (dk_at dksX1_turn_5 0 rfl rfl)
theorem dX1_turn_118 : decode cX1_turn 118 = .ok (.iload_n 2, 1) := dk_28 (dk_at dksX1_turn_5 3 rfl rfl)
theorem dX1_turn_119 : decode cX1_turn 119 = .ok (.putfield 255, 3) := dk_181 0 255 (dk_at dksX1_turn_5 4 rfl rfl)
theorem dX1_turn_122 : decode cX1_turn 122 = .ok (.goto 27, 3) := dk_167 0 27 (dk_at dksX1_turn_5 7 rfl rfl)
theorem dX1_turn_125 : decode cX1_turn 125 = .ok (.iload_n 1, 1) := dk_27 (dk_at dksX1_turn_5 10 rfl rfl)
theorem dX1_turn_126 : decode cX1_turn 126 = .ok (.iconst 1, 1) := dk_4 (dk_at dksX1_turn_5 11 rfl rfl)
theorem dX1_turn_127 : decode cX1_turn 127 = .ok (.if_icmp .ne 14, 3) := dk_160 0 14 (dk_at dksX1_turn_5 12 rfl rfl)
theorem dX1_turn_130 : decode cX1_turn 130 = .ok (.aload_n 0, 1) := dk_42 (dk_at dksX1_turn_5 15 rfl rfl)
theorem dX1_turn_131 : decode cX1_turn 131 = .ok (.getfield 30, 3) := dk_180 0 30 (dk_at dksX1_turn_5 16 rfl rfl)
theorem dX1_turn_134 : decode cX1_turn 134 = .ok (.iload_n 2, 1) := dk_28 (dk_at dksX1_turn_5 19 rfl rfl)
theorem dX1_turn_135 : decode cX1_turn 135 = .ok (.putfield 270, 3) := dk_181 1 14 (dk_at dksX1_turn_5 20 rfl rfl)
theorem dX1_turn_138 : decode cX1_turn 138 = .ok (.goto 11, 3) := dk_167 0 11 (dk_at dksX1_turn_6 0 rfl rfl)
theorem dX1_turn_141 : decode cX1_turn 141 = .ok (.aload_n 0, 1) := dk_42 (dk_at dksX1_turn_6 3 rfl rfl)
theorem dX1_turn_142 : decode cX1_turn 142 = .ok (.getfield 30, 3) := dk_180 0 30 (dk_at dksX1_turn_6 4 rfl rfl)
theorem dX1_turn_145 : decode cX1_turn 145 = .ok (.iload_n 2, 1) := dk_28 (dk_at dksX1_turn_6 7 rfl rfl)
theorem dX1_turn_146 : decode cX1_turn 146 = .ok (.putfield 243, 3) := dk_181 0 243 (dk_at dksX1_turn_6 8 rfl rfl)
theorem dX1_turn_149 : decode cX1_turn 149 = .ok (.iload_n 3, 1) := dk_29 (dk_at dksX1_turn_6 11 rfl rfl)
theorem dX1_turn_150 : decode cX1_turn 150 = .ok (.ireturn, 1) := dk_172 (dk_at dksX1_turn_6 12 rfl rfl)
abbrev cX1_then : ByteArray := prog_1_method_30_code
def yX1_then : MethodName := ⟨RX1, "then", "(II)I"⟩
def dkwX1_then_1 : List UInt8 := [182, 1, 129, 192, 0, 98, 180, 1, 158, 42, 180, 0, 34, 185, 1, 162, 2, 0, 172]
abbrev dktX1_then_1 : List UInt8 := dkwX1_then_1 ++ []
def dkwX1_then_0 : List UInt8 := [28, 3, 8, 184, 0, 180, 184, 0, 184, 27, 3, 184, 1, 151, 42, 27, 182, 1, 155, 42, 180, 0, 46, 28]
abbrev dktX1_then_0 : List UInt8 := dkwX1_then_0 ++ dktX1_then_1
theorem dksX1_then_0 : cX1_then.data.toList.drop 0 = dktX1_then_0 := by decide +kernel
theorem dksX1_then_1 : cX1_then.data.toList.drop 24 = dktX1_then_1 := dk_seg dksX1_then_0 24 rfl rfl
theorem dX1_then_0 : decode cX1_then 0 = .ok (.iload_n 2, 1) := dk_28 (dk_at dksX1_then_0 0 rfl rfl)
theorem dX1_then_1 : decode cX1_then 1 = .ok (.iconst 0, 1) := dk_3 (dk_at dksX1_then_0 1 rfl rfl)
theorem dX1_then_2 : decode cX1_then 2 = .ok (.iconst 5, 1) := dk_8 (dk_at dksX1_then_0 2 rfl rfl)
theorem dX1_then_3 : decode cX1_then 3 = .ok (.invokestatic 180, 3) := dk_184 0 180 (dk_at dksX1_then_0 3 rfl rfl)
theorem dX1_then_6 : decode cX1_then 6 = .ok (.invokestatic 184, 3) := dk_184 0 184 (dk_at dksX1_then_0 6 rfl rfl)
theorem dX1_then_9 : decode cX1_then 9 = .ok (.iload_n 1, 1) := dk_27 (dk_at dksX1_then_0 9 rfl rfl)
theorem dX1_then_10 : decode cX1_then 10 = .ok (.iconst 0, 1) := dk_3 (dk_at dksX1_then_0 10 rfl rfl)
theorem dX1_then_11 : decode cX1_then 11 = .ok (.invokestatic 407, 3) := dk_184 1 151 (dk_at dksX1_then_0 11 rfl rfl)
theorem dX1_then_14 : decode cX1_then 14 = .ok (.aload_n 0, 1) := dk_42 (dk_at dksX1_then_0 14 rfl rfl)
theorem dX1_then_15 : decode cX1_then 15 = .ok (.iload_n 1, 1) := dk_27 (dk_at dksX1_then_0 15 rfl rfl)
theorem dX1_then_16 : decode cX1_then 16 = .ok (.invokevirtual 411, 3) := dk_182 1 155 (dk_at dksX1_then_0 16 rfl rfl)
theorem dX1_then_19 : decode cX1_then 19 = .ok (.aload_n 0, 1) := dk_42 (dk_at dksX1_then_0 19 rfl rfl)
theorem dX1_then_20 : decode cX1_then 20 = .ok (.getfield 46, 3) := dk_180 0 46 (dk_at dksX1_then_0 20 rfl rfl)
theorem dX1_then_23 : decode cX1_then 23 = .ok (.iload_n 2, 1) := dk_28 (dk_at dksX1_then_0 23 rfl rfl)
theorem dX1_then_24 : decode cX1_then 24 = .ok (.invokevirtual 385, 3) := dk_182 1 129 (dk_at dksX1_then_1 0 rfl rfl)
theorem dX1_then_27 : decode cX1_then 27 = .ok (.checkcast 98, 3) := dk_192 0 98 (dk_at dksX1_then_1 3 rfl rfl)
theorem dX1_then_30 : decode cX1_then 30 = .ok (.getfield 414, 3) := dk_180 1 158 (dk_at dksX1_then_1 6 rfl rfl)
theorem dX1_then_33 : decode cX1_then 33 = .ok (.aload_n 0, 1) := dk_42 (dk_at dksX1_then_1 9 rfl rfl)
theorem dX1_then_34 : decode cX1_then 34 = .ok (.getfield 34, 3) := dk_180 0 34 (dk_at dksX1_then_1 10 rfl rfl)
theorem dX1_then_37 : decode cX1_then 37 = .ok (.invokeinterface 418 2, 5) := by decide +kernel
theorem dX1_then_42 : decode cX1_then 42 = .ok (.ireturn, 1) := dk_172 (dk_at dksX1_then_1 18 rfl rfl)
abbrev cX1_soon : ByteArray := prog_1_method_29_code
def yX1_soon : MethodName := ⟨RX1, "soon", "(II)V"⟩
def dkwX1_soon_0 : List UInt8 := [26, 27, 17, 1, 144, 184, 0, 180, 184, 0, 137, 177]
abbrev dktX1_soon_0 : List UInt8 := dkwX1_soon_0 ++ []
theorem dksX1_soon_0 : cX1_soon.data.toList.drop 0 = dktX1_soon_0 := by decide +kernel
theorem dX1_soon_0 : decode cX1_soon 0 = .ok (.iload_n 0, 1) := dk_26 (dk_at dksX1_soon_0 0 rfl rfl)
theorem dX1_soon_1 : decode cX1_soon 1 = .ok (.iload_n 1, 1) := dk_27 (dk_at dksX1_soon_0 1 rfl rfl)
theorem dX1_soon_2 : decode cX1_soon 2 = .ok (.sipush 400, 3) := dk_17 1 144 (dk_at dksX1_soon_0 2 rfl rfl)
theorem dX1_soon_5 : decode cX1_soon 5 = .ok (.invokestatic 180, 3) := dk_184 0 180 (dk_at dksX1_soon_0 5 rfl rfl)
theorem dX1_soon_8 : decode cX1_soon 8 = .ok (.invokestatic 137, 3) := dk_184 0 137 (dk_at dksX1_soon_0 8 rfl rfl)
theorem dX1_soon_11 : decode cX1_soon 11 = .ok (.return_, 1) := dk_177 (dk_at dksX1_soon_0 11 rfl rfl)
abbrev cX1_when : ByteArray := prog_1_method_32_code
def yX1_when : MethodName := ⟨RX1, "when", "(I)I"⟩
def dkwX1_when_5 : List UInt8 := [182, 1, 177, 167, 0, 17, 42, 186, 1, 185, 0, 0, 186, 1, 186, 0, 0, 182, 1, 177, 172]
abbrev dktX1_when_5 : List UInt8 := dkwX1_when_5 ++ []
def dkwX1_when_4 : List UInt8 := [186, 1, 182, 0, 0, 182, 1, 177, 167, 0, 34, 42, 186, 1, 183, 0, 0, 186, 1, 184, 0, 0]
abbrev dktX1_when_4 : List UInt8 := dkwX1_when_4 ++ dktX1_when_5
def dkwX1_when_3 : List UInt8 := [42, 186, 1, 173, 0, 0, 186, 1, 174, 0, 0, 182, 1, 177, 167, 0, 51, 42, 186, 1, 181, 0, 0]
abbrev dktX1_when_3 : List UInt8 := dkwX1_when_3 ++ dktX1_when_4
def dkwX1_when_2 : List UInt8 := [170, 0, 0, 0, 76, 0, 0, 0, 0, 0, 0, 0, 2, 0, 0, 0, 25, 0, 0, 0, 42, 0, 0, 0, 59]
abbrev dktX1_when_2 : List UInt8 := dkwX1_when_2 ++ dktX1_when_3
def dkwX1_when_1 : List UInt8 := [3, 172, 27]
abbrev dktX1_when_1 : List UInt8 := dkwX1_when_1 ++ dktX1_when_2
def dkwX1_when_0 : List UInt8 := [27, 3, 6, 184, 0, 180, 184, 0, 184, 27, 154, 0, 16, 42, 180, 0, 30, 180, 0, 171, 5, 160, 0, 5]
abbrev dktX1_when_0 : List UInt8 := dkwX1_when_0 ++ dktX1_when_1
theorem dksX1_when_0 : cX1_when.data.toList.drop 0 = dktX1_when_0 := by decide +kernel
theorem dksX1_when_1 : cX1_when.data.toList.drop 24 = dktX1_when_1 := dk_seg dksX1_when_0 24 rfl rfl
theorem dksX1_when_2 : cX1_when.data.toList.drop 27 = dktX1_when_2 := dk_seg dksX1_when_1 3 rfl rfl
theorem dksX1_when_3 : cX1_when.data.toList.drop 52 = dktX1_when_3 := dk_seg dksX1_when_2 25 rfl rfl
theorem dksX1_when_4 : cX1_when.data.toList.drop 75 = dktX1_when_4 := dk_seg dksX1_when_3 23 rfl rfl
theorem dksX1_when_5 : cX1_when.data.toList.drop 97 = dktX1_when_5 := dk_seg dksX1_when_4 22 rfl rfl
theorem dX1_when_0 : decode cX1_when 0 = .ok (.iload_n 1, 1) := dk_27 (dk_at dksX1_when_0 0 rfl rfl)
theorem dX1_when_1 : decode cX1_when 1 = .ok (.iconst 0, 1) := dk_3 (dk_at dksX1_when_0 1 rfl rfl)
theorem dX1_when_2 : decode cX1_when 2 = .ok (.iconst 3, 1) := dk_6 (dk_at dksX1_when_0 2 rfl rfl)
theorem dX1_when_3 : decode cX1_when 3 = .ok (.invokestatic 180, 3) := dk_184 0 180 (dk_at dksX1_when_0 3 rfl rfl)
theorem dX1_when_6 : decode cX1_when 6 = .ok (.invokestatic 184, 3) := dk_184 0 184 (dk_at dksX1_when_0 6 rfl rfl)
theorem dX1_when_9 : decode cX1_when 9 = .ok (.iload_n 1, 1) := dk_27 (dk_at dksX1_when_0 9 rfl rfl)
theorem dX1_when_10 : decode cX1_when 10 = .ok (.ifCond .ne 16, 3) := dk_154 0 16 (dk_at dksX1_when_0 10 rfl rfl)
theorem dX1_when_13 : decode cX1_when 13 = .ok (.aload_n 0, 1) := dk_42 (dk_at dksX1_when_0 13 rfl rfl)
theorem dX1_when_14 : decode cX1_when 14 = .ok (.getfield 30, 3) := dk_180 0 30 (dk_at dksX1_when_0 14 rfl rfl)
theorem dX1_when_17 : decode cX1_when 17 = .ok (.getfield 171, 3) := dk_180 0 171 (dk_at dksX1_when_0 17 rfl rfl)
theorem dX1_when_20 : decode cX1_when 20 = .ok (.iconst 2, 1) := dk_5 (dk_at dksX1_when_0 20 rfl rfl)
theorem dX1_when_21 : decode cX1_when 21 = .ok (.if_icmp .ne 5, 3) := dk_160 0 5 (dk_at dksX1_when_0 21 rfl rfl)
theorem dX1_when_24 : decode cX1_when 24 = .ok (.iconst 0, 1) := dk_3 (dk_at dksX1_when_1 0 rfl rfl)
theorem dX1_when_25 : decode cX1_when 25 = .ok (.ireturn, 1) := dk_172 (dk_at dksX1_when_1 1 rfl rfl)
theorem dX1_when_26 : decode cX1_when 26 = .ok (.iload_n 1, 1) := dk_27 (dk_at dksX1_when_1 2 rfl rfl)
theorem dX1_when_27 : decode cX1_when 27 = .ok (.tableswitch 76 0 2 #[25, 42, 59], 25) := by decide +kernel
theorem dX1_when_52 : decode cX1_when 52 = .ok (.aload_n 0, 1) := dk_42 (dk_at dksX1_when_3 0 rfl rfl)
theorem dX1_when_53 : decode cX1_when 53 = .ok (.invokedynamic 429, 5) := by decide +kernel
theorem dX1_when_58 : decode cX1_when 58 = .ok (.invokedynamic 430, 5) := by decide +kernel
theorem dX1_when_63 : decode cX1_when 63 = .ok (.invokevirtual 433, 3) := dk_182 1 177 (dk_at dksX1_when_3 11 rfl rfl)
theorem dX1_when_66 : decode cX1_when 66 = .ok (.goto 51, 3) := dk_167 0 51 (dk_at dksX1_when_3 14 rfl rfl)
theorem dX1_when_69 : decode cX1_when 69 = .ok (.aload_n 0, 1) := dk_42 (dk_at dksX1_when_3 17 rfl rfl)
theorem dX1_when_70 : decode cX1_when 70 = .ok (.invokedynamic 437, 5) := by decide +kernel
theorem dX1_when_75 : decode cX1_when 75 = .ok (.invokedynamic 438, 5) := by decide +kernel
theorem dX1_when_80 : decode cX1_when 80 = .ok (.invokevirtual 433, 3) := dk_182 1 177 (dk_at dksX1_when_4 5 rfl rfl)
theorem dX1_when_83 : decode cX1_when 83 = .ok (.goto 34, 3) := dk_167 0 34 (dk_at dksX1_when_4 8 rfl rfl)
theorem dX1_when_86 : decode cX1_when 86 = .ok (.aload_n 0, 1) := dk_42 (dk_at dksX1_when_4 11 rfl rfl)
theorem dX1_when_87 : decode cX1_when 87 = .ok (.invokedynamic 439, 5) := by decide +kernel
theorem dX1_when_92 : decode cX1_when 92 = .ok (.invokedynamic 440, 5) := by decide +kernel
theorem dX1_when_97 : decode cX1_when 97 = .ok (.invokevirtual 433, 3) := dk_182 1 177 (dk_at dksX1_when_5 0 rfl rfl)
theorem dX1_when_100 : decode cX1_when 100 = .ok (.goto 17, 3) := dk_167 0 17 (dk_at dksX1_when_5 3 rfl rfl)
theorem dX1_when_103 : decode cX1_when 103 = .ok (.aload_n 0, 1) := dk_42 (dk_at dksX1_when_5 6 rfl rfl)
theorem dX1_when_104 : decode cX1_when 104 = .ok (.invokedynamic 441, 5) := by decide +kernel
theorem dX1_when_109 : decode cX1_when 109 = .ok (.invokedynamic 442, 5) := by decide +kernel
theorem dX1_when_114 : decode cX1_when 114 = .ok (.invokevirtual 433, 3) := dk_182 1 177 (dk_at dksX1_when_5 17 rfl rfl)
theorem dX1_when_117 : decode cX1_when 117 = .ok (.ireturn, 1) := dk_172 (dk_at dksX1_when_5 20 rfl rfl)
abbrev cX1_lambda_when_7 : ByteArray := prog_1_method_58_code
def yX1_lambda_when_7 : MethodName := ⟨RX1, "lambda$when$7", "(LCircuitCells$State;)I"⟩
theorem dX1_lambda_when_7_0 : decode cX1_lambda_when_7 0 = .ok (.iconst 0, 1) := by decide +kernel
theorem dX1_lambda_when_7_1 : decode cX1_lambda_when_7 1 = .ok (.ireturn, 1) := by decide +kernel
abbrev cX1_lambda_when_8 : ByteArray := prog_1_method_57_code
def yX1_lambda_when_8 : MethodName := ⟨RX1, "lambda$when$8", "(LCircuitCells$State;I)Z"⟩
def dkwX1_lambda_when_8_0 : List UInt8 := [42, 180, 0, 171, 5, 160, 0, 7, 4, 167, 0, 4, 3, 172]
abbrev dktX1_lambda_when_8_0 : List UInt8 := dkwX1_lambda_when_8_0 ++ []
theorem dksX1_lambda_when_8_0 : cX1_lambda_when_8.data.toList.drop 0 = dktX1_lambda_when_8_0 := by decide +kernel
theorem dX1_lambda_when_8_0 : decode cX1_lambda_when_8 0 = .ok (.aload_n 0, 1) := dk_42 (dk_at dksX1_lambda_when_8_0 0 rfl rfl)
theorem dX1_lambda_when_8_1 : decode cX1_lambda_when_8 1 = .ok (.getfield 171, 3) := dk_180 0 171 (dk_at dksX1_lambda_when_8_0 1 rfl rfl)
theorem dX1_lambda_when_8_4 : decode cX1_lambda_when_8 4 = .ok (.iconst 2, 1) := dk_5 (dk_at dksX1_lambda_when_8_0 4 rfl rfl)
theorem dX1_lambda_when_8_5 : decode cX1_lambda_when_8 5 = .ok (.if_icmp .ne 7, 3) := dk_160 0 7 (dk_at dksX1_lambda_when_8_0 5 rfl rfl)
theorem dX1_lambda_when_8_8 : decode cX1_lambda_when_8 8 = .ok (.iconst 1, 1) := dk_4 (dk_at dksX1_lambda_when_8_0 8 rfl rfl)
theorem dX1_lambda_when_8_9 : decode cX1_lambda_when_8 9 = .ok (.goto 4, 3) := dk_167 0 4 (dk_at dksX1_lambda_when_8_0 9 rfl rfl)
theorem dX1_lambda_when_8_12 : decode cX1_lambda_when_8 12 = .ok (.iconst 0, 1) := dk_3 (dk_at dksX1_lambda_when_8_0 12 rfl rfl)
theorem dX1_lambda_when_8_13 : decode cX1_lambda_when_8 13 = .ok (.ireturn, 1) := dk_172 (dk_at dksX1_lambda_when_8_0 13 rfl rfl)
abbrev cX1_waits : ByteArray := prog_1_method_31_code
def yX1_waits : MethodName := ⟨RX1, "waits", "(LCircuitCells$Look;LCircuitCells$Wait;)I"⟩
def dkwX1_waits_2 : List UInt8 := [153, 0, 5, 29, 172, 132, 3, 1, 167, 255, 208, 2, 172]
abbrev dktX1_waits_2 : List UInt8 := dkwX1_waits_2 ++ []
def dkwX1_waits_1 : List UInt8 := [54, 4, 42, 42, 180, 0, 34, 4, 182, 1, 141, 44, 42, 180, 0, 34, 21, 4, 185, 1, 167, 3, 0]
abbrev dktX1_waits_1 : List UInt8 := dkwX1_waits_1 ++ dktX1_waits_2
def dkwX1_waits_0 : List UInt8 := [42, 3, 182, 1, 155, 4, 62, 29, 17, 1, 144, 163, 0, 47, 43, 42, 180, 0, 34, 185, 1, 162, 2, 0]
abbrev dktX1_waits_0 : List UInt8 := dkwX1_waits_0 ++ dktX1_waits_1
theorem dksX1_waits_0 : cX1_waits.data.toList.drop 0 = dktX1_waits_0 := by decide +kernel
theorem dksX1_waits_1 : cX1_waits.data.toList.drop 24 = dktX1_waits_1 := dk_seg dksX1_waits_0 24 rfl rfl
theorem dksX1_waits_2 : cX1_waits.data.toList.drop 47 = dktX1_waits_2 := dk_seg dksX1_waits_1 23 rfl rfl
theorem dX1_waits_0 : decode cX1_waits 0 = .ok (.aload_n 0, 1) := dk_42 (dk_at dksX1_waits_0 0 rfl rfl)
theorem dX1_waits_1 : decode cX1_waits 1 = .ok (.iconst 0, 1) := dk_3 (dk_at dksX1_waits_0 1 rfl rfl)
theorem dX1_waits_2 : decode cX1_waits 2 = .ok (.invokevirtual 411, 3) := dk_182 1 155 (dk_at dksX1_waits_0 2 rfl rfl)
theorem dX1_waits_5 : decode cX1_waits 5 = .ok (.iconst 1, 1) := dk_4 (dk_at dksX1_waits_0 5 rfl rfl)
theorem dX1_waits_6 : decode cX1_waits 6 = .ok (.istore_n 3, 1) := dk_62 (dk_at dksX1_waits_0 6 rfl rfl)
theorem dX1_waits_7 : decode cX1_waits 7 = .ok (.iload_n 3, 1) := dk_29 (dk_at dksX1_waits_0 7 rfl rfl)
theorem dX1_waits_8 : decode cX1_waits 8 = .ok (.sipush 400, 3) := dk_17 1 144 (dk_at dksX1_waits_0 8 rfl rfl)
theorem dX1_waits_11 : decode cX1_waits 11 = .ok (.if_icmp .gt 47, 3) := dk_163 0 47 (dk_at dksX1_waits_0 11 rfl rfl)
theorem dX1_waits_14 : decode cX1_waits 14 = .ok (.aload_n 1, 1) := dk_43 (dk_at dksX1_waits_0 14 rfl rfl)
theorem dX1_waits_15 : decode cX1_waits 15 = .ok (.aload_n 0, 1) := dk_42 (dk_at dksX1_waits_0 15 rfl rfl)
theorem dX1_waits_16 : decode cX1_waits 16 = .ok (.getfield 34, 3) := dk_180 0 34 (dk_at dksX1_waits_0 16 rfl rfl)
theorem dX1_waits_19 : decode cX1_waits 19 = .ok (.invokeinterface 418 2, 5) := by decide +kernel
theorem dX1_waits_24 : decode cX1_waits 24 = .ok (.istore 4, 2) := dk_54 4 (dk_at dksX1_waits_1 0 rfl rfl)
theorem dX1_waits_26 : decode cX1_waits 26 = .ok (.aload_n 0, 1) := dk_42 (dk_at dksX1_waits_1 2 rfl rfl)
theorem dX1_waits_27 : decode cX1_waits 27 = .ok (.aload_n 0, 1) := dk_42 (dk_at dksX1_waits_1 3 rfl rfl)
theorem dX1_waits_28 : decode cX1_waits 28 = .ok (.getfield 34, 3) := dk_180 0 34 (dk_at dksX1_waits_1 4 rfl rfl)
theorem dX1_waits_31 : decode cX1_waits 31 = .ok (.iconst 1, 1) := dk_4 (dk_at dksX1_waits_1 7 rfl rfl)
theorem dX1_waits_32 : decode cX1_waits 32 = .ok (.invokevirtual 397, 3) := dk_182 1 141 (dk_at dksX1_waits_1 8 rfl rfl)
theorem dX1_waits_35 : decode cX1_waits 35 = .ok (.aload_n 2, 1) := dk_44 (dk_at dksX1_waits_1 11 rfl rfl)
theorem dX1_waits_36 : decode cX1_waits 36 = .ok (.aload_n 0, 1) := dk_42 (dk_at dksX1_waits_1 12 rfl rfl)
theorem dX1_waits_37 : decode cX1_waits 37 = .ok (.getfield 34, 3) := dk_180 0 34 (dk_at dksX1_waits_1 13 rfl rfl)
theorem dX1_waits_40 : decode cX1_waits 40 = .ok (.iload 4, 2) := dk_21 4 (dk_at dksX1_waits_1 16 rfl rfl)
theorem dX1_waits_42 : decode cX1_waits 42 = .ok (.invokeinterface 423 3, 5) := by decide +kernel
theorem dX1_waits_47 : decode cX1_waits 47 = .ok (.ifCond .eq 5, 3) := dk_153 0 5 (dk_at dksX1_waits_2 0 rfl rfl)
theorem dX1_waits_50 : decode cX1_waits 50 = .ok (.iload_n 3, 1) := dk_29 (dk_at dksX1_waits_2 3 rfl rfl)
theorem dX1_waits_51 : decode cX1_waits 51 = .ok (.ireturn, 1) := dk_172 (dk_at dksX1_waits_2 4 rfl rfl)
theorem dX1_waits_52 : decode cX1_waits 52 = .ok (.iinc 3 1, 3) := dk_132 3 1 (dk_at dksX1_waits_2 5 rfl rfl)
theorem dX1_waits_55 : decode cX1_waits 55 = .ok (.goto (-48), 3) := dk_167 255 208 (dk_at dksX1_waits_2 8 rfl rfl)
theorem dX1_waits_58 : decode cX1_waits 58 = .ok (.iconst (-1), 1) := dk_2 (dk_at dksX1_waits_2 11 rfl rfl)
theorem dX1_waits_59 : decode cX1_waits 59 = .ok (.ireturn, 1) := dk_172 (dk_at dksX1_waits_2 12 rfl rfl)
abbrev cX1_lambda_when_9 : ByteArray := prog_1_method_56_code
def yX1_lambda_when_9 : MethodName := ⟨RX1, "lambda$when$9", "(LCircuitCells$State;)I"⟩
theorem dX1_lambda_when_9_0 : decode cX1_lambda_when_9 0 = .ok (.aload_n 0, 1) := by decide +kernel
theorem dX1_lambda_when_9_1 : decode cX1_lambda_when_9 1 = .ok (.getfield 211, 3) := by decide +kernel
theorem dX1_lambda_when_9_4 : decode cX1_lambda_when_9 4 = .ok (.ireturn, 1) := by decide +kernel
abbrev cX1_lambda_when_10 : ByteArray := prog_1_method_55_code
def yX1_lambda_when_10 : MethodName := ⟨RX1, "lambda$when$10", "(LCircuitCells$State;I)Z"⟩
def dkwX1_lambda_when_10_0 : List UInt8 := [42, 180, 0, 211, 27, 164, 0, 7, 4, 167, 0, 4, 3, 172]
abbrev dktX1_lambda_when_10_0 : List UInt8 := dkwX1_lambda_when_10_0 ++ []
theorem dksX1_lambda_when_10_0 : cX1_lambda_when_10.data.toList.drop 0 = dktX1_lambda_when_10_0 := by decide +kernel
theorem dX1_lambda_when_10_0 : decode cX1_lambda_when_10 0 = .ok (.aload_n 0, 1) := dk_42 (dk_at dksX1_lambda_when_10_0 0 rfl rfl)
theorem dX1_lambda_when_10_1 : decode cX1_lambda_when_10 1 = .ok (.getfield 211, 3) := dk_180 0 211 (dk_at dksX1_lambda_when_10_0 1 rfl rfl)
theorem dX1_lambda_when_10_4 : decode cX1_lambda_when_10 4 = .ok (.iload_n 1, 1) := dk_27 (dk_at dksX1_lambda_when_10_0 4 rfl rfl)
theorem dX1_lambda_when_10_5 : decode cX1_lambda_when_10 5 = .ok (.if_icmp .le 7, 3) := dk_164 0 7 (dk_at dksX1_lambda_when_10_0 5 rfl rfl)
theorem dX1_lambda_when_10_8 : decode cX1_lambda_when_10 8 = .ok (.iconst 1, 1) := dk_4 (dk_at dksX1_lambda_when_10_0 8 rfl rfl)
theorem dX1_lambda_when_10_9 : decode cX1_lambda_when_10 9 = .ok (.goto 4, 3) := dk_167 0 4 (dk_at dksX1_lambda_when_10_0 9 rfl rfl)
theorem dX1_lambda_when_10_12 : decode cX1_lambda_when_10 12 = .ok (.iconst 0, 1) := dk_3 (dk_at dksX1_lambda_when_10_0 12 rfl rfl)
theorem dX1_lambda_when_10_13 : decode cX1_lambda_when_10 13 = .ok (.ireturn, 1) := dk_172 (dk_at dksX1_lambda_when_10_0 13 rfl rfl)
abbrev cX1_lambda_when_11 : ByteArray := prog_1_method_54_code
def yX1_lambda_when_11 : MethodName := ⟨RX1, "lambda$when$11", "(LCircuitCells$State;)I"⟩
theorem dX1_lambda_when_11_0 : decode cX1_lambda_when_11 0 = .ok (.iconst 0, 1) := by decide +kernel
theorem dX1_lambda_when_11_1 : decode cX1_lambda_when_11 1 = .ok (.ireturn, 1) := by decide +kernel
abbrev cX1_lambda_when_12 : ByteArray := prog_1_method_53_code
def yX1_lambda_when_12 : MethodName := ⟨RX1, "lambda$when$12", "(LCircuitCells$State;I)Z"⟩
theorem dX1_lambda_when_12_0 : decode cX1_lambda_when_12 0 = .ok (.aload_n 0, 1) := by decide +kernel
theorem dX1_lambda_when_12_1 : decode cX1_lambda_when_12 1 = .ok (.getfield 496, 3) := by decide +kernel
theorem dX1_lambda_when_12_4 : decode cX1_lambda_when_12 4 = .ok (.ireturn, 1) := by decide +kernel
abbrev cX1_lambda_when_13 : ByteArray := prog_1_method_52_code
def yX1_lambda_when_13 : MethodName := ⟨RX1, "lambda$when$13", "(LCircuitCells$State;)I"⟩
theorem dX1_lambda_when_13_0 : decode cX1_lambda_when_13 0 = .ok (.aload_n 0, 1) := by decide +kernel
theorem dX1_lambda_when_13_1 : decode cX1_lambda_when_13 1 = .ok (.getfield 231, 3) := by decide +kernel
theorem dX1_lambda_when_13_4 : decode cX1_lambda_when_13 4 = .ok (.ireturn, 1) := by decide +kernel
abbrev cX1_lambda_when_14 : ByteArray := prog_1_method_51_code
def yX1_lambda_when_14 : MethodName := ⟨RX1, "lambda$when$14", "(LCircuitCells$State;I)Z"⟩
def dkwX1_lambda_when_14_0 : List UInt8 := [42, 180, 0, 231, 27, 164, 0, 7, 4, 167, 0, 4, 3, 172]
abbrev dktX1_lambda_when_14_0 : List UInt8 := dkwX1_lambda_when_14_0 ++ []
theorem dksX1_lambda_when_14_0 : cX1_lambda_when_14.data.toList.drop 0 = dktX1_lambda_when_14_0 := by decide +kernel
theorem dX1_lambda_when_14_0 : decode cX1_lambda_when_14 0 = .ok (.aload_n 0, 1) := dk_42 (dk_at dksX1_lambda_when_14_0 0 rfl rfl)
theorem dX1_lambda_when_14_1 : decode cX1_lambda_when_14 1 = .ok (.getfield 231, 3) := dk_180 0 231 (dk_at dksX1_lambda_when_14_0 1 rfl rfl)
theorem dX1_lambda_when_14_4 : decode cX1_lambda_when_14 4 = .ok (.iload_n 1, 1) := dk_27 (dk_at dksX1_lambda_when_14_0 4 rfl rfl)
theorem dX1_lambda_when_14_5 : decode cX1_lambda_when_14 5 = .ok (.if_icmp .le 7, 3) := dk_164 0 7 (dk_at dksX1_lambda_when_14_0 5 rfl rfl)
theorem dX1_lambda_when_14_8 : decode cX1_lambda_when_14 8 = .ok (.iconst 1, 1) := dk_4 (dk_at dksX1_lambda_when_14_0 8 rfl rfl)
theorem dX1_lambda_when_14_9 : decode cX1_lambda_when_14 9 = .ok (.goto 4, 3) := dk_167 0 4 (dk_at dksX1_lambda_when_14_0 9 rfl rfl)
theorem dX1_lambda_when_14_12 : decode cX1_lambda_when_14 12 = .ok (.iconst 0, 1) := dk_3 (dk_at dksX1_lambda_when_14_0 12 rfl rfl)
theorem dX1_lambda_when_14_13 : decode cX1_lambda_when_14 13 = .ok (.ireturn, 1) := dk_172 (dk_at dksX1_lambda_when_14_0 13 rfl rfl)
abbrev cX1_toAim : ByteArray := prog_1_method_35_code
def yX1_toAim : MethodName := ⟨RX1, "toAim", "(II)I"⟩
def dkwX1_toAim_6 : List UInt8 := [21, 4, 172]
abbrev dktX1_toAim_6 : List UInt8 := dkwX1_toAim_6 ++ []
def dkwX1_toAim_5 : List UInt8 := [54, 4, 132, 5, 1, 167, 255, 180, 42, 180, 0, 34, 1, 181, 1, 197, 28, 154, 0, 7, 29, 167, 0, 5]
abbrev dktX1_toAim_5 : List UInt8 := dkwX1_toAim_5 ++ dktX1_toAim_6
def dkwX1_toAim_4 : List UInt8 := [161, 0, 6, 167, 0, 23, 21, 5, 62, 42, 180, 0, 34, 180, 0, 211, 42, 180, 0, 30, 180, 0, 211, 100]
abbrev dktX1_toAim_4 : List UInt8 := dkwX1_toAim_4 ++ dktX1_toAim_5
def dkwX1_toAim_3 : List UInt8 := [180, 0, 34, 27, 182, 1, 141, 42, 180, 0, 34, 180, 0, 211, 42, 180, 0, 30, 180, 0, 211, 100, 21, 4]
abbrev dktX1_toAim_3 : List UInt8 := dkwX1_toAim_3 ++ dktX1_toAim_4
def dkwX1_toAim_2 : List UInt8 := [21, 5, 16, 64, 163, 0, 75, 42, 3, 182, 1, 155, 42, 180, 0, 34, 21, 5, 181, 0, 243, 42, 42]
abbrev dktX1_toAim_2 : List UInt8 := dkwX1_toAim_2 ++ dktX1_toAim_3
def dkwX1_toAim_1 : List UInt8 := [180, 0, 34, 42, 180, 0, 70, 42, 180, 0, 30, 180, 0, 193, 182, 1, 194, 181, 1, 197, 4, 54, 5]
abbrev dktX1_toAim_1 : List UInt8 := dkwX1_toAim_1 ++ dktX1_toAim_2
def dkwX1_toAim_0 : List UInt8 := [28, 3, 4, 184, 0, 180, 184, 0, 184, 27, 4, 184, 1, 151, 2, 62, 19, 1, 193, 54, 4, 42]
abbrev dktX1_toAim_0 : List UInt8 := dkwX1_toAim_0 ++ dktX1_toAim_1
theorem dksX1_toAim_0 : cX1_toAim.data.toList.drop 0 = dktX1_toAim_0 := by decide +kernel
theorem dksX1_toAim_1 : cX1_toAim.data.toList.drop 22 = dktX1_toAim_1 := dk_seg dksX1_toAim_0 22 rfl rfl
theorem dksX1_toAim_2 : cX1_toAim.data.toList.drop 45 = dktX1_toAim_2 := dk_seg dksX1_toAim_1 23 rfl rfl
theorem dksX1_toAim_3 : cX1_toAim.data.toList.drop 68 = dktX1_toAim_3 := dk_seg dksX1_toAim_2 23 rfl rfl
theorem dksX1_toAim_4 : cX1_toAim.data.toList.drop 92 = dktX1_toAim_4 := dk_seg dksX1_toAim_3 24 rfl rfl
theorem dksX1_toAim_5 : cX1_toAim.data.toList.drop 116 = dktX1_toAim_5 := dk_seg dksX1_toAim_4 24 rfl rfl
theorem dksX1_toAim_6 : cX1_toAim.data.toList.drop 140 = dktX1_toAim_6 := dk_seg dksX1_toAim_5 24 rfl rfl
theorem dX1_toAim_0 : decode cX1_toAim 0 = .ok (.iload_n 2, 1) := dk_28 (dk_at dksX1_toAim_0 0 rfl rfl)
theorem dX1_toAim_1 : decode cX1_toAim 1 = .ok (.iconst 0, 1) := dk_3 (dk_at dksX1_toAim_0 1 rfl rfl)
theorem dX1_toAim_2 : decode cX1_toAim 2 = .ok (.iconst 1, 1) := dk_4 (dk_at dksX1_toAim_0 2 rfl rfl)
theorem dX1_toAim_3 : decode cX1_toAim 3 = .ok (.invokestatic 180, 3) := dk_184 0 180 (dk_at dksX1_toAim_0 3 rfl rfl)
theorem dX1_toAim_6 : decode cX1_toAim 6 = .ok (.invokestatic 184, 3) := dk_184 0 184 (dk_at dksX1_toAim_0 6 rfl rfl)
theorem dX1_toAim_9 : decode cX1_toAim 9 = .ok (.iload_n 1, 1) := dk_27 (dk_at dksX1_toAim_0 9 rfl rfl)
theorem dX1_toAim_10 : decode cX1_toAim 10 = .ok (.iconst 1, 1) := dk_4 (dk_at dksX1_toAim_0 10 rfl rfl)
theorem dX1_toAim_11 : decode cX1_toAim 11 = .ok (.invokestatic 407, 3) := dk_184 1 151 (dk_at dksX1_toAim_0 11 rfl rfl)
theorem dX1_toAim_14 : decode cX1_toAim 14 = .ok (.iconst (-1), 1) := dk_2 (dk_at dksX1_toAim_0 14 rfl rfl)
theorem dX1_toAim_15 : decode cX1_toAim 15 = .ok (.istore_n 3, 1) := dk_62 (dk_at dksX1_toAim_0 15 rfl rfl)
theorem dX1_toAim_16 : decode cX1_toAim 16 = .ok (.ldc_w 449, 3) := dk_19 1 193 (dk_at dksX1_toAim_0 16 rfl rfl)
theorem dX1_toAim_19 : decode cX1_toAim 19 = .ok (.istore 4, 2) := dk_54 4 (dk_at dksX1_toAim_0 19 rfl rfl)
theorem dX1_toAim_21 : decode cX1_toAim 21 = .ok (.aload_n 0, 1) := dk_42 (dk_at dksX1_toAim_0 21 rfl rfl)
theorem dX1_toAim_22 : decode cX1_toAim 22 = .ok (.getfield 34, 3) := dk_180 0 34 (dk_at dksX1_toAim_1 0 rfl rfl)
theorem dX1_toAim_25 : decode cX1_toAim 25 = .ok (.aload_n 0, 1) := dk_42 (dk_at dksX1_toAim_1 3 rfl rfl)
theorem dX1_toAim_26 : decode cX1_toAim 26 = .ok (.getfield 70, 3) := dk_180 0 70 (dk_at dksX1_toAim_1 4 rfl rfl)
theorem dX1_toAim_29 : decode cX1_toAim 29 = .ok (.aload_n 0, 1) := dk_42 (dk_at dksX1_toAim_1 7 rfl rfl)
theorem dX1_toAim_30 : decode cX1_toAim 30 = .ok (.getfield 30, 3) := dk_180 0 30 (dk_at dksX1_toAim_1 8 rfl rfl)
theorem dX1_toAim_33 : decode cX1_toAim 33 = .ok (.getfield 193, 3) := dk_180 0 193 (dk_at dksX1_toAim_1 11 rfl rfl)
theorem dX1_toAim_36 : decode cX1_toAim 36 = .ok (.invokevirtual 450, 3) := dk_182 1 194 (dk_at dksX1_toAim_1 14 rfl rfl)
theorem dX1_toAim_39 : decode cX1_toAim 39 = .ok (.putfield 453, 3) := dk_181 1 197 (dk_at dksX1_toAim_1 17 rfl rfl)
theorem dX1_toAim_42 : decode cX1_toAim 42 = .ok (.iconst 1, 1) := dk_4 (dk_at dksX1_toAim_1 20 rfl rfl)
theorem dX1_toAim_43 : decode cX1_toAim 43 = .ok (.istore 5, 2) := dk_54 5 (dk_at dksX1_toAim_1 21 rfl rfl)
theorem dX1_toAim_45 : decode cX1_toAim 45 = .ok (.iload 5, 2) := dk_21 5 (dk_at dksX1_toAim_2 0 rfl rfl)
theorem dX1_toAim_47 : decode cX1_toAim 47 = .ok (.bipush 64, 2) := dk_16 64 (dk_at dksX1_toAim_2 2 rfl rfl)
theorem dX1_toAim_49 : decode cX1_toAim 49 = .ok (.if_icmp .gt 75, 3) := dk_163 0 75 (dk_at dksX1_toAim_2 4 rfl rfl)
theorem dX1_toAim_52 : decode cX1_toAim 52 = .ok (.aload_n 0, 1) := dk_42 (dk_at dksX1_toAim_2 7 rfl rfl)
theorem dX1_toAim_53 : decode cX1_toAim 53 = .ok (.iconst 0, 1) := dk_3 (dk_at dksX1_toAim_2 8 rfl rfl)
theorem dX1_toAim_54 : decode cX1_toAim 54 = .ok (.invokevirtual 411, 3) := dk_182 1 155 (dk_at dksX1_toAim_2 9 rfl rfl)
theorem dX1_toAim_57 : decode cX1_toAim 57 = .ok (.aload_n 0, 1) := dk_42 (dk_at dksX1_toAim_2 12 rfl rfl)
theorem dX1_toAim_58 : decode cX1_toAim 58 = .ok (.getfield 34, 3) := dk_180 0 34 (dk_at dksX1_toAim_2 13 rfl rfl)
theorem dX1_toAim_61 : decode cX1_toAim 61 = .ok (.iload 5, 2) := dk_21 5 (dk_at dksX1_toAim_2 16 rfl rfl)
theorem dX1_toAim_63 : decode cX1_toAim 63 = .ok (.putfield 243, 3) := dk_181 0 243 (dk_at dksX1_toAim_2 18 rfl rfl)
theorem dX1_toAim_66 : decode cX1_toAim 66 = .ok (.aload_n 0, 1) := dk_42 (dk_at dksX1_toAim_2 21 rfl rfl)
theorem dX1_toAim_67 : decode cX1_toAim 67 = .ok (.aload_n 0, 1) := dk_42 (dk_at dksX1_toAim_2 22 rfl rfl)
theorem dX1_toAim_68 : decode cX1_toAim 68 = .ok (.getfield 34, 3) := dk_180 0 34 (dk_at dksX1_toAim_3 0 rfl rfl)
theorem dX1_toAim_71 : decode cX1_toAim 71 = .ok (.iload_n 1, 1) := dk_27 (dk_at dksX1_toAim_3 3 rfl rfl)
theorem dX1_toAim_72 : decode cX1_toAim 72 = .ok (.invokevirtual 397, 3) := dk_182 1 141 (dk_at dksX1_toAim_3 4 rfl rfl)
theorem dX1_toAim_75 : decode cX1_toAim 75 = .ok (.aload_n 0, 1) := dk_42 (dk_at dksX1_toAim_3 7 rfl rfl)
theorem dX1_toAim_76 : decode cX1_toAim 76 = .ok (.getfield 34, 3) := dk_180 0 34 (dk_at dksX1_toAim_3 8 rfl rfl)
theorem dX1_toAim_79 : decode cX1_toAim 79 = .ok (.getfield 211, 3) := dk_180 0 211 (dk_at dksX1_toAim_3 11 rfl rfl)
theorem dX1_toAim_82 : decode cX1_toAim 82 = .ok (.aload_n 0, 1) := dk_42 (dk_at dksX1_toAim_3 14 rfl rfl)
theorem dX1_toAim_83 : decode cX1_toAim 83 = .ok (.getfield 30, 3) := dk_180 0 30 (dk_at dksX1_toAim_3 15 rfl rfl)
theorem dX1_toAim_86 : decode cX1_toAim 86 = .ok (.getfield 211, 3) := dk_180 0 211 (dk_at dksX1_toAim_3 18 rfl rfl)
theorem dX1_toAim_89 : decode cX1_toAim 89 = .ok (.isub, 1) := dk_100 (dk_at dksX1_toAim_3 21 rfl rfl)
theorem dX1_toAim_90 : decode cX1_toAim 90 = .ok (.iload 4, 2) := dk_21 4 (dk_at dksX1_toAim_3 22 rfl rfl)
theorem dX1_toAim_92 : decode cX1_toAim 92 = .ok (.if_icmp .lt 6, 3) := dk_161 0 6 (dk_at dksX1_toAim_4 0 rfl rfl)
theorem dX1_toAim_95 : decode cX1_toAim 95 = .ok (.goto 23, 3) := dk_167 0 23 (dk_at dksX1_toAim_4 3 rfl rfl)
theorem dX1_toAim_98 : decode cX1_toAim 98 = .ok (.iload 5, 2) := dk_21 5 (dk_at dksX1_toAim_4 6 rfl rfl)
theorem dX1_toAim_100 : decode cX1_toAim 100 = .ok (.istore_n 3, 1) := dk_62 (dk_at dksX1_toAim_4 8 rfl rfl)
theorem dX1_toAim_101 : decode cX1_toAim 101 = .ok (.aload_n 0, 1) := dk_42 (dk_at dksX1_toAim_4 9 rfl rfl)
theorem dX1_toAim_102 : decode cX1_toAim 102 = .ok (.getfield 34, 3) := dk_180 0 34 (dk_at dksX1_toAim_4 10 rfl rfl)
theorem dX1_toAim_105 : decode cX1_toAim 105 = .ok (.getfield 211, 3) := dk_180 0 211 (dk_at dksX1_toAim_4 13 rfl rfl)
theorem dX1_toAim_108 : decode cX1_toAim 108 = .ok (.aload_n 0, 1) := dk_42 (dk_at dksX1_toAim_4 16 rfl rfl)
theorem dX1_toAim_109 : decode cX1_toAim 109 = .ok (.getfield 30, 3) := dk_180 0 30 (dk_at dksX1_toAim_4 17 rfl rfl)
theorem dX1_toAim_112 : decode cX1_toAim 112 = .ok (.getfield 211, 3) := dk_180 0 211 (dk_at dksX1_toAim_4 20 rfl rfl)
theorem dX1_toAim_115 : decode cX1_toAim 115 = .ok (.isub, 1) := dk_100 (dk_at dksX1_toAim_4 23 rfl rfl)
theorem dX1_toAim_116 : decode cX1_toAim 116 = .ok (.istore 4, 2) := dk_54 4 (dk_at dksX1_toAim_5 0 rfl rfl)
theorem dX1_toAim_118 : decode cX1_toAim 118 = .ok (.iinc 5 1, 3) := dk_132 5 1 (dk_at dksX1_toAim_5 2 rfl rfl)
theorem dX1_toAim_121 : decode cX1_toAim 121 = .ok (.goto (-76), 3) := dk_167 255 180 (dk_at dksX1_toAim_5 5 rfl rfl)
theorem dX1_toAim_124 : decode cX1_toAim 124 = .ok (.aload_n 0, 1) := dk_42 (dk_at dksX1_toAim_5 8 rfl rfl)
theorem dX1_toAim_125 : decode cX1_toAim 125 = .ok (.getfield 34, 3) := dk_180 0 34 (dk_at dksX1_toAim_5 9 rfl rfl)
theorem dX1_toAim_128 : decode cX1_toAim 128 = .ok (.aconst_null, 1) := dk_1 (dk_at dksX1_toAim_5 12 rfl rfl)
theorem dX1_toAim_129 : decode cX1_toAim 129 = .ok (.putfield 453, 3) := dk_181 1 197 (dk_at dksX1_toAim_5 13 rfl rfl)
theorem dX1_toAim_132 : decode cX1_toAim 132 = .ok (.iload_n 2, 1) := dk_28 (dk_at dksX1_toAim_5 16 rfl rfl)
theorem dX1_toAim_133 : decode cX1_toAim 133 = .ok (.ifCond .ne 7, 3) := dk_154 0 7 (dk_at dksX1_toAim_5 17 rfl rfl)
theorem dX1_toAim_136 : decode cX1_toAim 136 = .ok (.iload_n 3, 1) := dk_29 (dk_at dksX1_toAim_5 20 rfl rfl)
theorem dX1_toAim_137 : decode cX1_toAim 137 = .ok (.goto 5, 3) := dk_167 0 5 (dk_at dksX1_toAim_5 21 rfl rfl)
theorem dX1_toAim_140 : decode cX1_toAim 140 = .ok (.iload 4, 2) := dk_21 4 (dk_at dksX1_toAim_6 0 rfl rfl)
theorem dX1_toAim_142 : decode cX1_toAim 142 = .ok (.ireturn, 1) := dk_172 (dk_at dksX1_toAim_6 2 rfl rfl)
abbrev cX1_toGain : ByteArray := prog_1_method_37_code
def yX1_toGain : MethodName := ⟨RX1, "toGain", "(II)I"⟩
def dkwX1_toGain_6 : List UInt8 := [28, 154, 0, 7, 29, 167, 0, 5, 21, 4, 172]
abbrev dktX1_toGain_6 : List UInt8 := dkwX1_toGain_6 ++ []
def dkwX1_toGain_5 : List UInt8 := [167, 0, 10, 21, 5, 62, 21, 6, 54, 4, 132, 5, 1, 167, 255, 169, 42, 180, 0, 34, 1, 181, 1, 197]
abbrev dktX1_toGain_5 : List UInt8 := dkwX1_toGain_5 ++ dktX1_toGain_6
def dkwX1_toGain_4 : List UInt8 := [182, 1, 198, 54, 6, 21, 6, 2, 159, 0, 26, 21, 4, 2, 159, 0, 13, 21, 6, 21, 4, 161, 0, 6]
abbrev dktX1_toGain_4 : List UInt8 := dkwX1_toGain_4 ++ dktX1_toGain_5
def dkwX1_toGain_3 : List UInt8 := [21, 5, 16, 10, 108, 181, 0, 246, 42, 180, 0, 34, 21, 5, 16, 10, 112, 181, 0, 249, 42, 27]
abbrev dktX1_toGain_3 : List UInt8 := dkwX1_toGain_3 ++ dktX1_toGain_4
def dkwX1_toGain_2 : List UInt8 := [162, 0, 86, 21, 5, 16, 10, 112, 6, 164, 0, 6, 167, 0, 68, 42, 3, 182, 1, 155, 42, 180, 0, 34]
abbrev dktX1_toGain_2 : List UInt8 := dkwX1_toGain_2 ++ dktX1_toGain_3
def dkwX1_toGain_1 : List UInt8 := [180, 0, 70, 42, 180, 0, 30, 180, 0, 193, 182, 1, 194, 181, 1, 197, 3, 54, 5, 21, 5, 16, 100]
abbrev dktX1_toGain_1 : List UInt8 := dkwX1_toGain_1 ++ dktX1_toGain_2
def dkwX1_toGain_0 : List UInt8 := [28, 3, 4, 184, 0, 180, 184, 0, 184, 27, 4, 184, 1, 151, 2, 62, 2, 54, 4, 42, 180, 0, 34, 42]
abbrev dktX1_toGain_0 : List UInt8 := dkwX1_toGain_0 ++ dktX1_toGain_1
theorem dksX1_toGain_0 : cX1_toGain.data.toList.drop 0 = dktX1_toGain_0 := by decide +kernel
theorem dksX1_toGain_1 : cX1_toGain.data.toList.drop 24 = dktX1_toGain_1 := dk_seg dksX1_toGain_0 24 rfl rfl
theorem dksX1_toGain_2 : cX1_toGain.data.toList.drop 47 = dktX1_toGain_2 := dk_seg dksX1_toGain_1 23 rfl rfl
theorem dksX1_toGain_3 : cX1_toGain.data.toList.drop 71 = dktX1_toGain_3 := dk_seg dksX1_toGain_2 24 rfl rfl
theorem dksX1_toGain_4 : cX1_toGain.data.toList.drop 93 = dktX1_toGain_4 := dk_seg dksX1_toGain_3 22 rfl rfl
theorem dksX1_toGain_5 : cX1_toGain.data.toList.drop 117 = dktX1_toGain_5 := dk_seg dksX1_toGain_4 24 rfl rfl
theorem dksX1_toGain_6 : cX1_toGain.data.toList.drop 141 = dktX1_toGain_6 := dk_seg dksX1_toGain_5 24 rfl rfl
theorem dX1_toGain_0 : decode cX1_toGain 0 = .ok (.iload_n 2, 1) := dk_28 (dk_at dksX1_toGain_0 0 rfl rfl)
theorem dX1_toGain_1 : decode cX1_toGain 1 = .ok (.iconst 0, 1) := dk_3 (dk_at dksX1_toGain_0 1 rfl rfl)
theorem dX1_toGain_2 : decode cX1_toGain 2 = .ok (.iconst 1, 1) := dk_4 (dk_at dksX1_toGain_0 2 rfl rfl)
theorem dX1_toGain_3 : decode cX1_toGain 3 = .ok (.invokestatic 180, 3) := dk_184 0 180 (dk_at dksX1_toGain_0 3 rfl rfl)
theorem dX1_toGain_6 : decode cX1_toGain 6 = .ok (.invokestatic 184, 3) := dk_184 0 184 (dk_at dksX1_toGain_0 6 rfl rfl)
theorem dX1_toGain_9 : decode cX1_toGain 9 = .ok (.iload_n 1, 1) := dk_27 (dk_at dksX1_toGain_0 9 rfl rfl)
theorem dX1_toGain_10 : decode cX1_toGain 10 = .ok (.iconst 1, 1) := dk_4 (dk_at dksX1_toGain_0 10 rfl rfl)
theorem dX1_toGain_11 : decode cX1_toGain 11 = .ok (.invokestatic 407, 3) := dk_184 1 151 (dk_at dksX1_toGain_0 11 rfl rfl)
theorem dX1_toGain_14 : decode cX1_toGain 14 = .ok (.iconst (-1), 1) := dk_2 (dk_at dksX1_toGain_0 14 rfl rfl)
theorem dX1_toGain_15 : decode cX1_toGain 15 = .ok (.istore_n 3, 1) := dk_62 (dk_at dksX1_toGain_0 15 rfl rfl)
theorem dX1_toGain_16 : decode cX1_toGain 16 = .ok (.iconst (-1), 1) := dk_2 (dk_at dksX1_toGain_0 16 rfl rfl)
theorem dX1_toGain_17 : decode cX1_toGain 17 = .ok (.istore 4, 2) := dk_54 4 (dk_at dksX1_toGain_0 17 rfl rfl)
theorem dX1_toGain_19 : decode cX1_toGain 19 = .ok (.aload_n 0, 1) := dk_42 (dk_at dksX1_toGain_0 19 rfl rfl)
theorem dX1_toGain_20 : decode cX1_toGain 20 = .ok (.getfield 34, 3) := dk_180 0 34 (dk_at dksX1_toGain_0 20 rfl rfl)
theorem dX1_toGain_23 : decode cX1_toGain 23 = .ok (.aload_n 0, 1) := dk_42 (dk_at dksX1_toGain_0 23 rfl rfl)
theorem dX1_toGain_24 : decode cX1_toGain 24 = .ok (.getfield 70, 3) := dk_180 0 70 (dk_at dksX1_toGain_1 0 rfl rfl)
theorem dX1_toGain_27 : decode cX1_toGain 27 = .ok (.aload_n 0, 1) := dk_42 (dk_at dksX1_toGain_1 3 rfl rfl)
theorem dX1_toGain_28 : decode cX1_toGain 28 = .ok (.getfield 30, 3) := dk_180 0 30 (dk_at dksX1_toGain_1 4 rfl rfl)
theorem dX1_toGain_31 : decode cX1_toGain 31 = .ok (.getfield 193, 3) := dk_180 0 193 (dk_at dksX1_toGain_1 7 rfl rfl)
theorem dX1_toGain_34 : decode cX1_toGain 34 = .ok (.invokevirtual 450, 3) := dk_182 1 194 (dk_at dksX1_toGain_1 10 rfl rfl)
theorem dX1_toGain_37 : decode cX1_toGain 37 = .ok (.putfield 453, 3) := dk_181 1 197 (dk_at dksX1_toGain_1 13 rfl rfl)
theorem dX1_toGain_40 : decode cX1_toGain 40 = .ok (.iconst 0, 1) := dk_3 (dk_at dksX1_toGain_1 16 rfl rfl)
theorem dX1_toGain_41 : decode cX1_toGain 41 = .ok (.istore 5, 2) := dk_54 5 (dk_at dksX1_toGain_1 17 rfl rfl)
theorem dX1_toGain_43 : decode cX1_toGain 43 = .ok (.iload 5, 2) := dk_21 5 (dk_at dksX1_toGain_1 19 rfl rfl)
theorem dX1_toGain_45 : decode cX1_toGain 45 = .ok (.bipush 100, 2) := dk_16 100 (dk_at dksX1_toGain_1 21 rfl rfl)
theorem dX1_toGain_47 : decode cX1_toGain 47 = .ok (.if_icmp .ge 86, 3) := dk_162 0 86 (dk_at dksX1_toGain_2 0 rfl rfl)
theorem dX1_toGain_50 : decode cX1_toGain 50 = .ok (.iload 5, 2) := dk_21 5 (dk_at dksX1_toGain_2 3 rfl rfl)
theorem dX1_toGain_52 : decode cX1_toGain 52 = .ok (.bipush 10, 2) := dk_16 10 (dk_at dksX1_toGain_2 5 rfl rfl)
theorem dX1_toGain_54 : decode cX1_toGain 54 = .ok (.irem, 1) := dk_112 (dk_at dksX1_toGain_2 7 rfl rfl)
theorem dX1_toGain_55 : decode cX1_toGain 55 = .ok (.iconst 3, 1) := dk_6 (dk_at dksX1_toGain_2 8 rfl rfl)
theorem dX1_toGain_56 : decode cX1_toGain 56 = .ok (.if_icmp .le 6, 3) := dk_164 0 6 (dk_at dksX1_toGain_2 9 rfl rfl)
theorem dX1_toGain_59 : decode cX1_toGain 59 = .ok (.goto 68, 3) := dk_167 0 68 (dk_at dksX1_toGain_2 12 rfl rfl)
theorem dX1_toGain_62 : decode cX1_toGain 62 = .ok (.aload_n 0, 1) := dk_42 (dk_at dksX1_toGain_2 15 rfl rfl)
theorem dX1_toGain_63 : decode cX1_toGain 63 = .ok (.iconst 0, 1) := dk_3 (dk_at dksX1_toGain_2 16 rfl rfl)
theorem dX1_toGain_64 : decode cX1_toGain 64 = .ok (.invokevirtual 411, 3) := dk_182 1 155 (dk_at dksX1_toGain_2 17 rfl rfl)
theorem dX1_toGain_67 : decode cX1_toGain 67 = .ok (.aload_n 0, 1) := dk_42 (dk_at dksX1_toGain_2 20 rfl rfl)
theorem dX1_toGain_68 : decode cX1_toGain 68 = .ok (.getfield 34, 3) := dk_180 0 34 (dk_at dksX1_toGain_2 21 rfl rfl)
theorem dX1_toGain_71 : decode cX1_toGain 71 = .ok (.iload 5, 2) := dk_21 5 (dk_at dksX1_toGain_3 0 rfl rfl)
theorem dX1_toGain_73 : decode cX1_toGain 73 = .ok (.bipush 10, 2) := dk_16 10 (dk_at dksX1_toGain_3 2 rfl rfl)
theorem dX1_toGain_75 : decode cX1_toGain 75 = .ok (.idiv, 1) := dk_108 (dk_at dksX1_toGain_3 4 rfl rfl)
theorem dX1_toGain_76 : decode cX1_toGain 76 = .ok (.putfield 246, 3) := dk_181 0 246 (dk_at dksX1_toGain_3 5 rfl rfl)
theorem dX1_toGain_79 : decode cX1_toGain 79 = .ok (.aload_n 0, 1) := dk_42 (dk_at dksX1_toGain_3 8 rfl rfl)
theorem dX1_toGain_80 : decode cX1_toGain 80 = .ok (.getfield 34, 3) := dk_180 0 34 (dk_at dksX1_toGain_3 9 rfl rfl)
theorem dX1_toGain_83 : decode cX1_toGain 83 = .ok (.iload 5, 2) := dk_21 5 (dk_at dksX1_toGain_3 12 rfl rfl)
theorem dX1_toGain_85 : decode cX1_toGain 85 = .ok (.bipush 10, 2) := dk_16 10 (dk_at dksX1_toGain_3 14 rfl rfl)
theorem dX1_toGain_87 : decode cX1_toGain 87 = .ok (.irem, 1) := dk_112 (dk_at dksX1_toGain_3 16 rfl rfl)
theorem dX1_toGain_88 : decode cX1_toGain 88 = .ok (.putfield 249, 3) := dk_181 0 249 (dk_at dksX1_toGain_3 17 rfl rfl)
theorem dX1_toGain_91 : decode cX1_toGain 91 = .ok (.aload_n 0, 1) := dk_42 (dk_at dksX1_toGain_3 20 rfl rfl)
theorem dX1_toGain_92 : decode cX1_toGain 92 = .ok (.iload_n 1, 1) := dk_27 (dk_at dksX1_toGain_3 21 rfl rfl)
theorem dX1_toGain_93 : decode cX1_toGain 93 = .ok (.invokevirtual 454, 3) := dk_182 1 198 (dk_at dksX1_toGain_4 0 rfl rfl)
theorem dX1_toGain_96 : decode cX1_toGain 96 = .ok (.istore 6, 2) := dk_54 6 (dk_at dksX1_toGain_4 3 rfl rfl)
theorem dX1_toGain_98 : decode cX1_toGain 98 = .ok (.iload 6, 2) := dk_21 6 (dk_at dksX1_toGain_4 5 rfl rfl)
theorem dX1_toGain_100 : decode cX1_toGain 100 = .ok (.iconst (-1), 1) := dk_2 (dk_at dksX1_toGain_4 7 rfl rfl)
theorem dX1_toGain_101 : decode cX1_toGain 101 = .ok (.if_icmp .eq 26, 3) := dk_159 0 26 (dk_at dksX1_toGain_4 8 rfl rfl)
theorem dX1_toGain_104 : decode cX1_toGain 104 = .ok (.iload 4, 2) := dk_21 4 (dk_at dksX1_toGain_4 11 rfl rfl)
theorem dX1_toGain_106 : decode cX1_toGain 106 = .ok (.iconst (-1), 1) := dk_2 (dk_at dksX1_toGain_4 13 rfl rfl)
theorem dX1_toGain_107 : decode cX1_toGain 107 = .ok (.if_icmp .eq 13, 3) := dk_159 0 13 (dk_at dksX1_toGain_4 14 rfl rfl)
theorem dX1_toGain_110 : decode cX1_toGain 110 = .ok (.iload 6, 2) := dk_21 6 (dk_at dksX1_toGain_4 17 rfl rfl)
theorem dX1_toGain_112 : decode cX1_toGain 112 = .ok (.iload 4, 2) := dk_21 4 (dk_at dksX1_toGain_4 19 rfl rfl)
theorem dX1_toGain_114 : decode cX1_toGain 114 = .ok (.if_icmp .lt 6, 3) := dk_161 0 6 (dk_at dksX1_toGain_4 21 rfl rfl)
theorem dX1_toGain_117 : decode cX1_toGain 117 = .ok (.goto 10, 3) := dk_167 0 10 (dk_at dksX1_toGain_5 0 rfl rfl)
theorem dX1_toGain_120 : decode cX1_toGain 120 = .ok (.iload 5, 2) := dk_21 5 (dk_at dksX1_toGain_5 3 rfl rfl)
theorem dX1_toGain_122 : decode cX1_toGain 122 = .ok (.istore_n 3, 1) := dk_62 (dk_at dksX1_toGain_5 5 rfl rfl)
theorem dX1_toGain_123 : decode cX1_toGain 123 = .ok (.iload 6, 2) := dk_21 6 (dk_at dksX1_toGain_5 6 rfl rfl)
theorem dX1_toGain_125 : decode cX1_toGain 125 = .ok (.istore 4, 2) := dk_54 4 (dk_at dksX1_toGain_5 8 rfl rfl)
theorem dX1_toGain_127 : decode cX1_toGain 127 = .ok (.iinc 5 1, 3) := dk_132 5 1 (dk_at dksX1_toGain_5 10 rfl rfl)
theorem dX1_toGain_130 : decode cX1_toGain 130 = .ok (.goto (-87), 3) := dk_167 255 169 (dk_at dksX1_toGain_5 13 rfl rfl)
theorem dX1_toGain_133 : decode cX1_toGain 133 = .ok (.aload_n 0, 1) := dk_42 (dk_at dksX1_toGain_5 16 rfl rfl)
theorem dX1_toGain_134 : decode cX1_toGain 134 = .ok (.getfield 34, 3) := dk_180 0 34 (dk_at dksX1_toGain_5 17 rfl rfl)
theorem dX1_toGain_137 : decode cX1_toGain 137 = .ok (.aconst_null, 1) := dk_1 (dk_at dksX1_toGain_5 20 rfl rfl)
theorem dX1_toGain_138 : decode cX1_toGain 138 = .ok (.putfield 453, 3) := dk_181 1 197 (dk_at dksX1_toGain_5 21 rfl rfl)
theorem dX1_toGain_141 : decode cX1_toGain 141 = .ok (.iload_n 2, 1) := dk_28 (dk_at dksX1_toGain_6 0 rfl rfl)
theorem dX1_toGain_142 : decode cX1_toGain 142 = .ok (.ifCond .ne 7, 3) := dk_154 0 7 (dk_at dksX1_toGain_6 1 rfl rfl)
theorem dX1_toGain_145 : decode cX1_toGain 145 = .ok (.iload_n 3, 1) := dk_29 (dk_at dksX1_toGain_6 4 rfl rfl)
theorem dX1_toGain_146 : decode cX1_toGain 146 = .ok (.goto 5, 3) := dk_167 0 5 (dk_at dksX1_toGain_6 5 rfl rfl)
theorem dX1_toGain_149 : decode cX1_toGain 149 = .ok (.iload 4, 2) := dk_21 4 (dk_at dksX1_toGain_6 8 rfl rfl)
theorem dX1_toGain_151 : decode cX1_toGain 151 = .ok (.ireturn, 1) := dk_172 (dk_at dksX1_toGain_6 10 rfl rfl)
abbrev cX1_mostOff : ByteArray := prog_1_method_36_code
def yX1_mostOff : MethodName := ⟨RX1, "mostOff", "(I)I"⟩
def dkwX1_mostOff_2 : List UInt8 := [167, 255, 215, 28, 172]
abbrev dktX1_mostOff_2 : List UInt8 := dkwX1_mostOff_2 ++ []
def dkwX1_mostOff_1 : List UInt8 := [180, 0, 171, 5, 160, 0, 16, 28, 42, 42, 180, 0, 34, 182, 1, 190, 184, 1, 8, 61, 132, 3, 1]
abbrev dktX1_mostOff_1 : List UInt8 := dkwX1_mostOff_1 ++ dktX1_mostOff_2
def dkwX1_mostOff_0 : List UInt8 := [2, 61, 3, 62, 29, 27, 162, 0, 42, 42, 42, 180, 0, 34, 4, 182, 1, 141, 42, 180, 0, 34]
abbrev dktX1_mostOff_0 : List UInt8 := dkwX1_mostOff_0 ++ dktX1_mostOff_1
theorem dksX1_mostOff_0 : cX1_mostOff.data.toList.drop 0 = dktX1_mostOff_0 := by decide +kernel
theorem dksX1_mostOff_1 : cX1_mostOff.data.toList.drop 22 = dktX1_mostOff_1 := dk_seg dksX1_mostOff_0 22 rfl rfl
theorem dksX1_mostOff_2 : cX1_mostOff.data.toList.drop 45 = dktX1_mostOff_2 := dk_seg dksX1_mostOff_1 23 rfl rfl
theorem dX1_mostOff_0 : decode cX1_mostOff 0 = .ok (.iconst (-1), 1) := dk_2 (dk_at dksX1_mostOff_0 0 rfl rfl)
theorem dX1_mostOff_1 : decode cX1_mostOff 1 = .ok (.istore_n 2, 1) := dk_61 (dk_at dksX1_mostOff_0 1 rfl rfl)
theorem dX1_mostOff_2 : decode cX1_mostOff 2 = .ok (.iconst 0, 1) := dk_3 (dk_at dksX1_mostOff_0 2 rfl rfl)
theorem dX1_mostOff_3 : decode cX1_mostOff 3 = .ok (.istore_n 3, 1) := dk_62 (dk_at dksX1_mostOff_0 3 rfl rfl)
theorem dX1_mostOff_4 : decode cX1_mostOff 4 = .ok (.iload_n 3, 1) := dk_29 (dk_at dksX1_mostOff_0 4 rfl rfl)
theorem dX1_mostOff_5 : decode cX1_mostOff 5 = .ok (.iload_n 1, 1) := dk_27 (dk_at dksX1_mostOff_0 5 rfl rfl)
theorem dX1_mostOff_6 : decode cX1_mostOff 6 = .ok (.if_icmp .ge 42, 3) := dk_162 0 42 (dk_at dksX1_mostOff_0 6 rfl rfl)
theorem dX1_mostOff_9 : decode cX1_mostOff 9 = .ok (.aload_n 0, 1) := dk_42 (dk_at dksX1_mostOff_0 9 rfl rfl)
theorem dX1_mostOff_10 : decode cX1_mostOff 10 = .ok (.aload_n 0, 1) := dk_42 (dk_at dksX1_mostOff_0 10 rfl rfl)
theorem dX1_mostOff_11 : decode cX1_mostOff 11 = .ok (.getfield 34, 3) := dk_180 0 34 (dk_at dksX1_mostOff_0 11 rfl rfl)
theorem dX1_mostOff_14 : decode cX1_mostOff 14 = .ok (.iconst 1, 1) := dk_4 (dk_at dksX1_mostOff_0 14 rfl rfl)
theorem dX1_mostOff_15 : decode cX1_mostOff 15 = .ok (.invokevirtual 397, 3) := dk_182 1 141 (dk_at dksX1_mostOff_0 15 rfl rfl)
theorem dX1_mostOff_18 : decode cX1_mostOff 18 = .ok (.aload_n 0, 1) := dk_42 (dk_at dksX1_mostOff_0 18 rfl rfl)
theorem dX1_mostOff_19 : decode cX1_mostOff 19 = .ok (.getfield 34, 3) := dk_180 0 34 (dk_at dksX1_mostOff_0 19 rfl rfl)
theorem dX1_mostOff_22 : decode cX1_mostOff 22 = .ok (.getfield 171, 3) := dk_180 0 171 (dk_at dksX1_mostOff_1 0 rfl rfl)
theorem dX1_mostOff_25 : decode cX1_mostOff 25 = .ok (.iconst 2, 1) := dk_5 (dk_at dksX1_mostOff_1 3 rfl rfl)
theorem dX1_mostOff_26 : decode cX1_mostOff 26 = .ok (.if_icmp .ne 16, 3) := dk_160 0 16 (dk_at dksX1_mostOff_1 4 rfl rfl)
theorem dX1_mostOff_29 : decode cX1_mostOff 29 = .ok (.iload_n 2, 1) := dk_28 (dk_at dksX1_mostOff_1 7 rfl rfl)
theorem dX1_mostOff_30 : decode cX1_mostOff 30 = .ok (.aload_n 0, 1) := dk_42 (dk_at dksX1_mostOff_1 8 rfl rfl)
theorem dX1_mostOff_31 : decode cX1_mostOff 31 = .ok (.aload_n 0, 1) := dk_42 (dk_at dksX1_mostOff_1 9 rfl rfl)
theorem dX1_mostOff_32 : decode cX1_mostOff 32 = .ok (.getfield 34, 3) := dk_180 0 34 (dk_at dksX1_mostOff_1 10 rfl rfl)
theorem dX1_mostOff_35 : decode cX1_mostOff 35 = .ok (.invokevirtual 446, 3) := dk_182 1 190 (dk_at dksX1_mostOff_1 13 rfl rfl)
theorem dX1_mostOff_38 : decode cX1_mostOff 38 = .ok (.invokestatic 264, 3) := dk_184 1 8 (dk_at dksX1_mostOff_1 16 rfl rfl)
theorem dX1_mostOff_41 : decode cX1_mostOff 41 = .ok (.istore_n 2, 1) := dk_61 (dk_at dksX1_mostOff_1 19 rfl rfl)
theorem dX1_mostOff_42 : decode cX1_mostOff 42 = .ok (.iinc 3 1, 3) := dk_132 3 1 (dk_at dksX1_mostOff_1 20 rfl rfl)
theorem dX1_mostOff_45 : decode cX1_mostOff 45 = .ok (.goto (-41), 3) := dk_167 255 215 (dk_at dksX1_mostOff_2 0 rfl rfl)
theorem dX1_mostOff_48 : decode cX1_mostOff 48 = .ok (.iload_n 2, 1) := dk_28 (dk_at dksX1_mostOff_2 3 rfl rfl)
theorem dX1_mostOff_49 : decode cX1_mostOff 49 = .ok (.ireturn, 1) := dk_172 (dk_at dksX1_mostOff_2 4 rfl rfl)
abbrev cX1_other : ByteArray := prog_1_method_41_code
def yX1_other : MethodName := ⟨RX1, "other", "(I)I"⟩
def dkwX1_other_3 : List UInt8 := [167, 255, 228, 27, 154, 0, 7, 28, 167, 0, 4, 29, 172]
abbrev dktX1_other_3 : List UInt8 := dkwX1_other_3 ++ []
def dkwX1_other_2 : List UInt8 := [161, 0, 27, 42, 21, 4, 182, 1, 209, 154, 0, 6, 167, 0, 9, 132, 2, 1, 21, 4, 62, 132, 4, 255]
abbrev dktX1_other_2 : List UInt8 := dkwX1_other_2 ++ dktX1_other_3
def dkwX1_other_1 : List UInt8 := [153, 0, 7, 4, 167, 0, 4, 3, 172, 3, 61, 16, 100, 62, 16, 99, 54, 4, 21, 4, 16, 157]
abbrev dktX1_other_1 : List UInt8 := dkwX1_other_1 ++ dktX1_other_2
def dkwX1_other_0 : List UInt8 := [27, 3, 5, 184, 0, 180, 184, 0, 184, 27, 5, 160, 0, 21, 42, 3, 182, 1, 155, 42, 182, 1, 206]
abbrev dktX1_other_0 : List UInt8 := dkwX1_other_0 ++ dktX1_other_1
theorem dksX1_other_0 : cX1_other.data.toList.drop 0 = dktX1_other_0 := by decide +kernel
theorem dksX1_other_1 : cX1_other.data.toList.drop 23 = dktX1_other_1 := dk_seg dksX1_other_0 23 rfl rfl
theorem dksX1_other_2 : cX1_other.data.toList.drop 45 = dktX1_other_2 := dk_seg dksX1_other_1 22 rfl rfl
theorem dksX1_other_3 : cX1_other.data.toList.drop 69 = dktX1_other_3 := dk_seg dksX1_other_2 24 rfl rfl
theorem dX1_other_0 : decode cX1_other 0 = .ok (.iload_n 1, 1) := dk_27 (dk_at dksX1_other_0 0 rfl rfl)
theorem dX1_other_1 : decode cX1_other 1 = .ok (.iconst 0, 1) := dk_3 (dk_at dksX1_other_0 1 rfl rfl)
theorem dX1_other_2 : decode cX1_other 2 = .ok (.iconst 2, 1) := dk_5 (dk_at dksX1_other_0 2 rfl rfl)
theorem dX1_other_3 : decode cX1_other 3 = .ok (.invokestatic 180, 3) := dk_184 0 180 (dk_at dksX1_other_0 3 rfl rfl)
theorem dX1_other_6 : decode cX1_other 6 = .ok (.invokestatic 184, 3) := dk_184 0 184 (dk_at dksX1_other_0 6 rfl rfl)
theorem dX1_other_9 : decode cX1_other 9 = .ok (.iload_n 1, 1) := dk_27 (dk_at dksX1_other_0 9 rfl rfl)
theorem dX1_other_10 : decode cX1_other 10 = .ok (.iconst 2, 1) := dk_5 (dk_at dksX1_other_0 10 rfl rfl)
theorem dX1_other_11 : decode cX1_other 11 = .ok (.if_icmp .ne 21, 3) := dk_160 0 21 (dk_at dksX1_other_0 11 rfl rfl)
theorem dX1_other_14 : decode cX1_other 14 = .ok (.aload_n 0, 1) := dk_42 (dk_at dksX1_other_0 14 rfl rfl)
theorem dX1_other_15 : decode cX1_other 15 = .ok (.iconst 0, 1) := dk_3 (dk_at dksX1_other_0 15 rfl rfl)
theorem dX1_other_16 : decode cX1_other 16 = .ok (.invokevirtual 411, 3) := dk_182 1 155 (dk_at dksX1_other_0 16 rfl rfl)
theorem dX1_other_19 : decode cX1_other 19 = .ok (.aload_n 0, 1) := dk_42 (dk_at dksX1_other_0 19 rfl rfl)
theorem dX1_other_20 : decode cX1_other 20 = .ok (.invokevirtual 462, 3) := dk_182 1 206 (dk_at dksX1_other_0 20 rfl rfl)
theorem dX1_other_23 : decode cX1_other 23 = .ok (.ifCond .eq 7, 3) := dk_153 0 7 (dk_at dksX1_other_1 0 rfl rfl)
theorem dX1_other_26 : decode cX1_other 26 = .ok (.iconst 1, 1) := dk_4 (dk_at dksX1_other_1 3 rfl rfl)
theorem dX1_other_27 : decode cX1_other 27 = .ok (.goto 4, 3) := dk_167 0 4 (dk_at dksX1_other_1 4 rfl rfl)
theorem dX1_other_30 : decode cX1_other 30 = .ok (.iconst 0, 1) := dk_3 (dk_at dksX1_other_1 7 rfl rfl)
theorem dX1_other_31 : decode cX1_other 31 = .ok (.ireturn, 1) := dk_172 (dk_at dksX1_other_1 8 rfl rfl)
theorem dX1_other_32 : decode cX1_other 32 = .ok (.iconst 0, 1) := dk_3 (dk_at dksX1_other_1 9 rfl rfl)
theorem dX1_other_33 : decode cX1_other 33 = .ok (.istore_n 2, 1) := dk_61 (dk_at dksX1_other_1 10 rfl rfl)
theorem dX1_other_34 : decode cX1_other 34 = .ok (.bipush 100, 2) := dk_16 100 (dk_at dksX1_other_1 11 rfl rfl)
theorem dX1_other_36 : decode cX1_other 36 = .ok (.istore_n 3, 1) := dk_62 (dk_at dksX1_other_1 13 rfl rfl)
theorem dX1_other_37 : decode cX1_other 37 = .ok (.bipush 99, 2) := dk_16 99 (dk_at dksX1_other_1 14 rfl rfl)
theorem dX1_other_39 : decode cX1_other 39 = .ok (.istore 4, 2) := dk_54 4 (dk_at dksX1_other_1 16 rfl rfl)
theorem dX1_other_41 : decode cX1_other 41 = .ok (.iload 4, 2) := dk_21 4 (dk_at dksX1_other_1 18 rfl rfl)
theorem dX1_other_43 : decode cX1_other 43 = .ok (.bipush (-99), 2) := dk_16 157 (dk_at dksX1_other_1 20 rfl rfl)
theorem dX1_other_45 : decode cX1_other 45 = .ok (.if_icmp .lt 27, 3) := dk_161 0 27 (dk_at dksX1_other_2 0 rfl rfl)
theorem dX1_other_48 : decode cX1_other 48 = .ok (.aload_n 0, 1) := dk_42 (dk_at dksX1_other_2 3 rfl rfl)
theorem dX1_other_49 : decode cX1_other 49 = .ok (.iload 4, 2) := dk_21 4 (dk_at dksX1_other_2 4 rfl rfl)
theorem dX1_other_51 : decode cX1_other 51 = .ok (.invokevirtual 465, 3) := dk_182 1 209 (dk_at dksX1_other_2 6 rfl rfl)
theorem dX1_other_54 : decode cX1_other 54 = .ok (.ifCond .ne 6, 3) := dk_154 0 6 (dk_at dksX1_other_2 9 rfl rfl)
theorem dX1_other_57 : decode cX1_other 57 = .ok (.goto 9, 3) := dk_167 0 9 (dk_at dksX1_other_2 12 rfl rfl)
theorem dX1_other_60 : decode cX1_other 60 = .ok (.iinc 2 1, 3) := dk_132 2 1 (dk_at dksX1_other_2 15 rfl rfl)
theorem dX1_other_63 : decode cX1_other 63 = .ok (.iload 4, 2) := dk_21 4 (dk_at dksX1_other_2 18 rfl rfl)
theorem dX1_other_65 : decode cX1_other 65 = .ok (.istore_n 3, 1) := dk_62 (dk_at dksX1_other_2 20 rfl rfl)
theorem dX1_other_66 : decode cX1_other 66 = .ok (.iinc 4 (-1), 3) := dk_132 4 255 (dk_at dksX1_other_2 21 rfl rfl)
theorem dX1_other_69 : decode cX1_other 69 = .ok (.goto (-28), 3) := dk_167 255 228 (dk_at dksX1_other_3 0 rfl rfl)
theorem dX1_other_72 : decode cX1_other 72 = .ok (.iload_n 1, 1) := dk_27 (dk_at dksX1_other_3 3 rfl rfl)
theorem dX1_other_73 : decode cX1_other 73 = .ok (.ifCond .ne 7, 3) := dk_154 0 7 (dk_at dksX1_other_3 4 rfl rfl)
theorem dX1_other_76 : decode cX1_other 76 = .ok (.iload_n 2, 1) := dk_28 (dk_at dksX1_other_3 7 rfl rfl)
theorem dX1_other_77 : decode cX1_other 77 = .ok (.goto 4, 3) := dk_167 0 4 (dk_at dksX1_other_3 8 rfl rfl)
theorem dX1_other_80 : decode cX1_other 80 = .ok (.iload_n 3, 1) := dk_29 (dk_at dksX1_other_3 11 rfl rfl)
theorem dX1_other_81 : decode cX1_other 81 = .ok (.ireturn, 1) := dk_172 (dk_at dksX1_other_3 12 rfl rfl)
abbrev cX1_isNoted : ByteArray := prog_1_method_39_code
def yX1_isNoted : MethodName := ⟨RX1, "isNoted", "()Z"⟩
def dkwX1_isNoted_4 : List UInt8 := [79, 42, 42, 180, 0, 34, 4, 182, 1, 141, 132, 1, 1, 167, 255, 150, 4, 172]
abbrev dktX1_isNoted_4 : List UInt8 := dkwX1_isNoted_4 ++ []
def dkwX1_isNoted_3 : List UInt8 := [154, 0, 25, 27, 158, 0, 21, 27, 16, 60, 162, 0, 15, 42, 180, 0, 74, 27, 16, 10, 108, 4, 100, 28]
abbrev dktX1_isNoted_3 : List UInt8 := dkwX1_isNoted_3 ++ dktX1_isNoted_4
def dkwX1_isNoted_2 : List UInt8 := [180, 0, 19, 180, 1, 204, 29, 46, 159, 0, 5, 3, 172, 132, 3, 1, 167, 255, 214, 27, 16, 10, 112]
abbrev dktX1_isNoted_2 : List UInt8 := dkwX1_isNoted_2 ++ dktX1_isNoted_3
def dkwX1_isNoted_1 : List UInt8 := [180, 0, 19, 180, 0, 164, 162, 0, 37, 42, 180, 0, 19, 180, 1, 201, 29, 46, 27, 160, 0, 18, 28, 42]
abbrev dktX1_isNoted_1 : List UInt8 := dkwX1_isNoted_1 ++ dktX1_isNoted_2
def dkwX1_isNoted_0 : List UInt8 := [3, 60, 27, 16, 60, 163, 0, 106, 42, 180, 0, 34, 42, 180, 0, 10, 182, 0, 214, 61, 3, 62, 29, 42]
abbrev dktX1_isNoted_0 : List UInt8 := dkwX1_isNoted_0 ++ dktX1_isNoted_1
theorem dksX1_isNoted_0 : cX1_isNoted.data.toList.drop 0 = dktX1_isNoted_0 := by decide +kernel
theorem dksX1_isNoted_1 : cX1_isNoted.data.toList.drop 24 = dktX1_isNoted_1 := dk_seg dksX1_isNoted_0 24 rfl rfl
theorem dksX1_isNoted_2 : cX1_isNoted.data.toList.drop 48 = dktX1_isNoted_2 := dk_seg dksX1_isNoted_1 24 rfl rfl
theorem dksX1_isNoted_3 : cX1_isNoted.data.toList.drop 71 = dktX1_isNoted_3 := dk_seg dksX1_isNoted_2 23 rfl rfl
theorem dksX1_isNoted_4 : cX1_isNoted.data.toList.drop 95 = dktX1_isNoted_4 := dk_seg dksX1_isNoted_3 24 rfl rfl
theorem dX1_isNoted_0 : decode cX1_isNoted 0 = .ok (.iconst 0, 1) := dk_3 (dk_at dksX1_isNoted_0 0 rfl rfl)
theorem dX1_isNoted_1 : decode cX1_isNoted 1 = .ok (.istore_n 1, 1) := dk_60 (dk_at dksX1_isNoted_0 1 rfl rfl)
theorem dX1_isNoted_2 : decode cX1_isNoted 2 = .ok (.iload_n 1, 1) := dk_27 (dk_at dksX1_isNoted_0 2 rfl rfl)
theorem dX1_isNoted_3 : decode cX1_isNoted 3 = .ok (.bipush 60, 2) := dk_16 60 (dk_at dksX1_isNoted_0 3 rfl rfl)
theorem dX1_isNoted_5 : decode cX1_isNoted 5 = .ok (.if_icmp .gt 106, 3) := dk_163 0 106 (dk_at dksX1_isNoted_0 5 rfl rfl)
theorem dX1_isNoted_8 : decode cX1_isNoted 8 = .ok (.aload_n 0, 1) := dk_42 (dk_at dksX1_isNoted_0 8 rfl rfl)
theorem dX1_isNoted_9 : decode cX1_isNoted 9 = .ok (.getfield 34, 3) := dk_180 0 34 (dk_at dksX1_isNoted_0 9 rfl rfl)
theorem dX1_isNoted_12 : decode cX1_isNoted 12 = .ok (.aload_n 0, 1) := dk_42 (dk_at dksX1_isNoted_0 12 rfl rfl)
theorem dX1_isNoted_13 : decode cX1_isNoted 13 = .ok (.getfield 10, 3) := dk_180 0 10 (dk_at dksX1_isNoted_0 13 rfl rfl)
theorem dX1_isNoted_16 : decode cX1_isNoted 16 = .ok (.invokevirtual 214, 3) := dk_182 0 214 (dk_at dksX1_isNoted_0 16 rfl rfl)
theorem dX1_isNoted_19 : decode cX1_isNoted 19 = .ok (.istore_n 2, 1) := dk_61 (dk_at dksX1_isNoted_0 19 rfl rfl)
theorem dX1_isNoted_20 : decode cX1_isNoted 20 = .ok (.iconst 0, 1) := dk_3 (dk_at dksX1_isNoted_0 20 rfl rfl)
theorem dX1_isNoted_21 : decode cX1_isNoted 21 = .ok (.istore_n 3, 1) := dk_62 (dk_at dksX1_isNoted_0 21 rfl rfl)
theorem dX1_isNoted_22 : decode cX1_isNoted 22 = .ok (.iload_n 3, 1) := dk_29 (dk_at dksX1_isNoted_0 22 rfl rfl)
theorem dX1_isNoted_23 : decode cX1_isNoted 23 = .ok (.aload_n 0, 1) := dk_42 (dk_at dksX1_isNoted_0 23 rfl rfl)
theorem dX1_isNoted_24 : decode cX1_isNoted 24 = .ok (.getfield 19, 3) := dk_180 0 19 (dk_at dksX1_isNoted_1 0 rfl rfl)
theorem dX1_isNoted_27 : decode cX1_isNoted 27 = .ok (.getfield 164, 3) := dk_180 0 164 (dk_at dksX1_isNoted_1 3 rfl rfl)
theorem dX1_isNoted_30 : decode cX1_isNoted 30 = .ok (.if_icmp .ge 37, 3) := dk_162 0 37 (dk_at dksX1_isNoted_1 6 rfl rfl)
theorem dX1_isNoted_33 : decode cX1_isNoted 33 = .ok (.aload_n 0, 1) := dk_42 (dk_at dksX1_isNoted_1 9 rfl rfl)
theorem dX1_isNoted_34 : decode cX1_isNoted 34 = .ok (.getfield 19, 3) := dk_180 0 19 (dk_at dksX1_isNoted_1 10 rfl rfl)
theorem dX1_isNoted_37 : decode cX1_isNoted 37 = .ok (.getfield 457, 3) := dk_180 1 201 (dk_at dksX1_isNoted_1 13 rfl rfl)
theorem dX1_isNoted_40 : decode cX1_isNoted 40 = .ok (.iload_n 3, 1) := dk_29 (dk_at dksX1_isNoted_1 16 rfl rfl)
theorem dX1_isNoted_41 : decode cX1_isNoted 41 = .ok (.iaload, 1) := dk_46 (dk_at dksX1_isNoted_1 17 rfl rfl)
theorem dX1_isNoted_42 : decode cX1_isNoted 42 = .ok (.iload_n 1, 1) := dk_27 (dk_at dksX1_isNoted_1 18 rfl rfl)
theorem dX1_isNoted_43 : decode cX1_isNoted 43 = .ok (.if_icmp .ne 18, 3) := dk_160 0 18 (dk_at dksX1_isNoted_1 19 rfl rfl)
theorem dX1_isNoted_46 : decode cX1_isNoted 46 = .ok (.iload_n 2, 1) := dk_28 (dk_at dksX1_isNoted_1 22 rfl rfl)
theorem dX1_isNoted_47 : decode cX1_isNoted 47 = .ok (.aload_n 0, 1) := dk_42 (dk_at dksX1_isNoted_1 23 rfl rfl)
theorem dX1_isNoted_48 : decode cX1_isNoted 48 = .ok (.getfield 19, 3) := dk_180 0 19 (dk_at dksX1_isNoted_2 0 rfl rfl)
theorem dX1_isNoted_51 : decode cX1_isNoted 51 = .ok (.getfield 460, 3) := dk_180 1 204 (dk_at dksX1_isNoted_2 3 rfl rfl)
theorem dX1_isNoted_54 : decode cX1_isNoted 54 = .ok (.iload_n 3, 1) := dk_29 (dk_at dksX1_isNoted_2 6 rfl rfl)
theorem dX1_isNoted_55 : decode cX1_isNoted 55 = .ok (.iaload, 1) := dk_46 (dk_at dksX1_isNoted_2 7 rfl rfl)
theorem dX1_isNoted_56 : decode cX1_isNoted 56 = .ok (.if_icmp .eq 5, 3) := dk_159 0 5 (dk_at dksX1_isNoted_2 8 rfl rfl)
theorem dX1_isNoted_59 : decode cX1_isNoted 59 = .ok (.iconst 0, 1) := dk_3 (dk_at dksX1_isNoted_2 11 rfl rfl)
theorem dX1_isNoted_60 : decode cX1_isNoted 60 = .ok (.ireturn, 1) := dk_172 (dk_at dksX1_isNoted_2 12 rfl rfl)
theorem dX1_isNoted_61 : decode cX1_isNoted 61 = .ok (.iinc 3 1, 3) := dk_132 3 1 (dk_at dksX1_isNoted_2 13 rfl rfl)
theorem dX1_isNoted_64 : decode cX1_isNoted 64 = .ok (.goto (-42), 3) := dk_167 255 214 (dk_at dksX1_isNoted_2 16 rfl rfl)
theorem dX1_isNoted_67 : decode cX1_isNoted 67 = .ok (.iload_n 1, 1) := dk_27 (dk_at dksX1_isNoted_2 19 rfl rfl)
theorem dX1_isNoted_68 : decode cX1_isNoted 68 = .ok (.bipush 10, 2) := dk_16 10 (dk_at dksX1_isNoted_2 20 rfl rfl)
theorem dX1_isNoted_70 : decode cX1_isNoted 70 = .ok (.irem, 1) := dk_112 (dk_at dksX1_isNoted_2 22 rfl rfl)
theorem dX1_isNoted_71 : decode cX1_isNoted 71 = .ok (.ifCond .ne 25, 3) := dk_154 0 25 (dk_at dksX1_isNoted_3 0 rfl rfl)
theorem dX1_isNoted_74 : decode cX1_isNoted 74 = .ok (.iload_n 1, 1) := dk_27 (dk_at dksX1_isNoted_3 3 rfl rfl)
theorem dX1_isNoted_75 : decode cX1_isNoted 75 = .ok (.ifCond .le 21, 3) := dk_158 0 21 (dk_at dksX1_isNoted_3 4 rfl rfl)
theorem dX1_isNoted_78 : decode cX1_isNoted 78 = .ok (.iload_n 1, 1) := dk_27 (dk_at dksX1_isNoted_3 7 rfl rfl)
theorem dX1_isNoted_79 : decode cX1_isNoted 79 = .ok (.bipush 60, 2) := dk_16 60 (dk_at dksX1_isNoted_3 8 rfl rfl)
theorem dX1_isNoted_81 : decode cX1_isNoted 81 = .ok (.if_icmp .ge 15, 3) := dk_162 0 15 (dk_at dksX1_isNoted_3 10 rfl rfl)
theorem dX1_isNoted_84 : decode cX1_isNoted 84 = .ok (.aload_n 0, 1) := dk_42 (dk_at dksX1_isNoted_3 13 rfl rfl)
theorem dX1_isNoted_85 : decode cX1_isNoted 85 = .ok (.getfield 74, 3) := dk_180 0 74 (dk_at dksX1_isNoted_3 14 rfl rfl)
theorem dX1_isNoted_88 : decode cX1_isNoted 88 = .ok (.iload_n 1, 1) := dk_27 (dk_at dksX1_isNoted_3 17 rfl rfl)
theorem dX1_isNoted_89 : decode cX1_isNoted 89 = .ok (.bipush 10, 2) := dk_16 10 (dk_at dksX1_isNoted_3 18 rfl rfl)
theorem dX1_isNoted_91 : decode cX1_isNoted 91 = .ok (.idiv, 1) := dk_108 (dk_at dksX1_isNoted_3 20 rfl rfl)
theorem dX1_isNoted_92 : decode cX1_isNoted 92 = .ok (.iconst 1, 1) := dk_4 (dk_at dksX1_isNoted_3 21 rfl rfl)
theorem dX1_isNoted_93 : decode cX1_isNoted 93 = .ok (.isub, 1) := dk_100 (dk_at dksX1_isNoted_3 22 rfl rfl)
theorem dX1_isNoted_94 : decode cX1_isNoted 94 = .ok (.iload_n 2, 1) := dk_28 (dk_at dksX1_isNoted_3 23 rfl rfl)
theorem dX1_isNoted_95 : decode cX1_isNoted 95 = .ok (.iastore, 1) := dk_79 (dk_at dksX1_isNoted_4 0 rfl rfl)
theorem dX1_isNoted_96 : decode cX1_isNoted 96 = .ok (.aload_n 0, 1) := dk_42 (dk_at dksX1_isNoted_4 1 rfl rfl)
theorem dX1_isNoted_97 : decode cX1_isNoted 97 = .ok (.aload_n 0, 1) := dk_42 (dk_at dksX1_isNoted_4 2 rfl rfl)
theorem dX1_isNoted_98 : decode cX1_isNoted 98 = .ok (.getfield 34, 3) := dk_180 0 34 (dk_at dksX1_isNoted_4 3 rfl rfl)
theorem dX1_isNoted_101 : decode cX1_isNoted 101 = .ok (.iconst 1, 1) := dk_4 (dk_at dksX1_isNoted_4 6 rfl rfl)
theorem dX1_isNoted_102 : decode cX1_isNoted 102 = .ok (.invokevirtual 397, 3) := dk_182 1 141 (dk_at dksX1_isNoted_4 7 rfl rfl)
theorem dX1_isNoted_105 : decode cX1_isNoted 105 = .ok (.iinc 1 1, 3) := dk_132 1 1 (dk_at dksX1_isNoted_4 10 rfl rfl)
theorem dX1_isNoted_108 : decode cX1_isNoted 108 = .ok (.goto (-106), 3) := dk_167 255 150 (dk_at dksX1_isNoted_4 13 rfl rfl)
theorem dX1_isNoted_111 : decode cX1_isNoted 111 = .ok (.iconst 1, 1) := dk_4 (dk_at dksX1_isNoted_4 16 rfl rfl)
theorem dX1_isNoted_112 : decode cX1_isNoted 112 = .ok (.ireturn, 1) := dk_172 (dk_at dksX1_isNoted_4 17 rfl rfl)
abbrev cX1_isGuess : ByteArray := prog_1_method_40_code
def yX1_isGuess : MethodName := ⟨RX1, "isGuess", "(I)Z"⟩
def dkwX1_isGuess_1 : List UInt8 := [181, 0, 255, 42, 182, 1, 206, 172]
abbrev dktX1_isGuess_1 : List UInt8 := dkwX1_isGuess_1 ++ []
def dkwX1_isGuess_0 : List UInt8 := [27, 42, 180, 0, 30, 180, 0, 255, 160, 0, 5, 3, 172, 42, 3, 182, 1, 155, 42, 180, 0, 34, 27]
abbrev dktX1_isGuess_0 : List UInt8 := dkwX1_isGuess_0 ++ dktX1_isGuess_1
theorem dksX1_isGuess_0 : cX1_isGuess.data.toList.drop 0 = dktX1_isGuess_0 := by decide +kernel
theorem dksX1_isGuess_1 : cX1_isGuess.data.toList.drop 23 = dktX1_isGuess_1 := dk_seg dksX1_isGuess_0 23 rfl rfl
theorem dX1_isGuess_0 : decode cX1_isGuess 0 = .ok (.iload_n 1, 1) := dk_27 (dk_at dksX1_isGuess_0 0 rfl rfl)
theorem dX1_isGuess_1 : decode cX1_isGuess 1 = .ok (.aload_n 0, 1) := dk_42 (dk_at dksX1_isGuess_0 1 rfl rfl)
theorem dX1_isGuess_2 : decode cX1_isGuess 2 = .ok (.getfield 30, 3) := dk_180 0 30 (dk_at dksX1_isGuess_0 2 rfl rfl)
theorem dX1_isGuess_5 : decode cX1_isGuess 5 = .ok (.getfield 255, 3) := dk_180 0 255 (dk_at dksX1_isGuess_0 5 rfl rfl)
theorem dX1_isGuess_8 : decode cX1_isGuess 8 = .ok (.if_icmp .ne 5, 3) := dk_160 0 5 (dk_at dksX1_isGuess_0 8 rfl rfl)
theorem dX1_isGuess_11 : decode cX1_isGuess 11 = .ok (.iconst 0, 1) := dk_3 (dk_at dksX1_isGuess_0 11 rfl rfl)
theorem dX1_isGuess_12 : decode cX1_isGuess 12 = .ok (.ireturn, 1) := dk_172 (dk_at dksX1_isGuess_0 12 rfl rfl)
theorem dX1_isGuess_13 : decode cX1_isGuess 13 = .ok (.aload_n 0, 1) := dk_42 (dk_at dksX1_isGuess_0 13 rfl rfl)
theorem dX1_isGuess_14 : decode cX1_isGuess 14 = .ok (.iconst 0, 1) := dk_3 (dk_at dksX1_isGuess_0 14 rfl rfl)
theorem dX1_isGuess_15 : decode cX1_isGuess 15 = .ok (.invokevirtual 411, 3) := dk_182 1 155 (dk_at dksX1_isGuess_0 15 rfl rfl)
theorem dX1_isGuess_18 : decode cX1_isGuess 18 = .ok (.aload_n 0, 1) := dk_42 (dk_at dksX1_isGuess_0 18 rfl rfl)
theorem dX1_isGuess_19 : decode cX1_isGuess 19 = .ok (.getfield 34, 3) := dk_180 0 34 (dk_at dksX1_isGuess_0 19 rfl rfl)
theorem dX1_isGuess_22 : decode cX1_isGuess 22 = .ok (.iload_n 1, 1) := dk_27 (dk_at dksX1_isGuess_0 22 rfl rfl)
theorem dX1_isGuess_23 : decode cX1_isGuess 23 = .ok (.putfield 255, 3) := dk_181 0 255 (dk_at dksX1_isGuess_1 0 rfl rfl)
theorem dX1_isGuess_26 : decode cX1_isGuess 26 = .ok (.aload_n 0, 1) := dk_42 (dk_at dksX1_isGuess_1 3 rfl rfl)
theorem dX1_isGuess_27 : decode cX1_isGuess 27 = .ok (.invokevirtual 462, 3) := dk_182 1 206 (dk_at dksX1_isGuess_1 4 rfl rfl)
theorem dX1_isGuess_30 : decode cX1_isGuess 30 = .ok (.ireturn, 1) := dk_172 (dk_at dksX1_isGuess_1 7 rfl rfl)
abbrev cX1_look : ByteArray := prog_1_method_43_code
def yX1_look : MethodName := ⟨RX1, "look", "(I)I"⟩
def dkwX1_look_5 : List UInt8 := [21, 4, 172]
abbrev dktX1_look_5 : List UInt8 := dkwX1_look_5 ++ []
def dkwX1_look_4 : List UInt8 := [21, 5, 4, 96, 104, 62, 21, 6, 54, 4, 132, 5, 1, 167, 255, 216, 27, 154, 0, 7, 29, 167, 0, 5]
abbrev dktX1_look_4 : List UInt8 := dkwX1_look_4 ++ dktX1_look_5
def dkwX1_look_3 : List UInt8 := [162, 0, 40, 42, 21, 5, 28, 182, 1, 218, 54, 6, 21, 6, 21, 4, 163, 0, 6, 167, 0, 15, 16, 10]
abbrev dktX1_look_3 : List UInt8 := dkwX1_look_3 ++ dktX1_look_4
def dkwX1_look_2 : List UInt8 := [184, 1, 212, 132, 2, 1, 132, 3, 1, 167, 255, 217, 2, 62, 3, 54, 4, 3, 54, 5, 21, 5, 8]
abbrev dktX1_look_2 : List UInt8 := dkwX1_look_2 ++ dktX1_look_3
def dkwX1_look_1 : List UInt8 := [182, 1, 209, 154, 0, 6, 167, 0, 22, 42, 180, 0, 74, 3, 42, 180, 0, 78, 8, 28, 104, 8]
abbrev dktX1_look_1 : List UInt8 := dkwX1_look_1 ++ dktX1_look_2
def dkwX1_look_0 : List UInt8 := [27, 3, 4, 184, 0, 180, 184, 0, 184, 3, 61, 16, 157, 62, 29, 16, 99, 163, 0, 39, 42, 29]
abbrev dktX1_look_0 : List UInt8 := dkwX1_look_0 ++ dktX1_look_1
theorem dksX1_look_0 : cX1_look.data.toList.drop 0 = dktX1_look_0 := by decide +kernel
theorem dksX1_look_1 : cX1_look.data.toList.drop 22 = dktX1_look_1 := dk_seg dksX1_look_0 22 rfl rfl
theorem dksX1_look_2 : cX1_look.data.toList.drop 44 = dktX1_look_2 := dk_seg dksX1_look_1 22 rfl rfl
theorem dksX1_look_3 : cX1_look.data.toList.drop 67 = dktX1_look_3 := dk_seg dksX1_look_2 23 rfl rfl
theorem dksX1_look_4 : cX1_look.data.toList.drop 91 = dktX1_look_4 := dk_seg dksX1_look_3 24 rfl rfl
theorem dksX1_look_5 : cX1_look.data.toList.drop 115 = dktX1_look_5 := dk_seg dksX1_look_4 24 rfl rfl
theorem dX1_look_0 : decode cX1_look 0 = .ok (.iload_n 1, 1) := dk_27 (dk_at dksX1_look_0 0 rfl rfl)
theorem dX1_look_1 : decode cX1_look 1 = .ok (.iconst 0, 1) := dk_3 (dk_at dksX1_look_0 1 rfl rfl)
theorem dX1_look_2 : decode cX1_look 2 = .ok (.iconst 1, 1) := dk_4 (dk_at dksX1_look_0 2 rfl rfl)
theorem dX1_look_3 : decode cX1_look 3 = .ok (.invokestatic 180, 3) := dk_184 0 180 (dk_at dksX1_look_0 3 rfl rfl)
theorem dX1_look_6 : decode cX1_look 6 = .ok (.invokestatic 184, 3) := dk_184 0 184 (dk_at dksX1_look_0 6 rfl rfl)
theorem dX1_look_9 : decode cX1_look 9 = .ok (.iconst 0, 1) := dk_3 (dk_at dksX1_look_0 9 rfl rfl)
theorem dX1_look_10 : decode cX1_look 10 = .ok (.istore_n 2, 1) := dk_61 (dk_at dksX1_look_0 10 rfl rfl)
theorem dX1_look_11 : decode cX1_look 11 = .ok (.bipush (-99), 2) := dk_16 157 (dk_at dksX1_look_0 11 rfl rfl)
theorem dX1_look_13 : decode cX1_look 13 = .ok (.istore_n 3, 1) := dk_62 (dk_at dksX1_look_0 13 rfl rfl)
theorem dX1_look_14 : decode cX1_look 14 = .ok (.iload_n 3, 1) := dk_29 (dk_at dksX1_look_0 14 rfl rfl)
theorem dX1_look_15 : decode cX1_look 15 = .ok (.bipush 99, 2) := dk_16 99 (dk_at dksX1_look_0 15 rfl rfl)
theorem dX1_look_17 : decode cX1_look 17 = .ok (.if_icmp .gt 39, 3) := dk_163 0 39 (dk_at dksX1_look_0 17 rfl rfl)
theorem dX1_look_20 : decode cX1_look 20 = .ok (.aload_n 0, 1) := dk_42 (dk_at dksX1_look_0 20 rfl rfl)
theorem dX1_look_21 : decode cX1_look 21 = .ok (.iload_n 3, 1) := dk_29 (dk_at dksX1_look_0 21 rfl rfl)
theorem dX1_look_22 : decode cX1_look 22 = .ok (.invokevirtual 465, 3) := dk_182 1 209 (dk_at dksX1_look_1 0 rfl rfl)
theorem dX1_look_25 : decode cX1_look 25 = .ok (.ifCond .ne 6, 3) := dk_154 0 6 (dk_at dksX1_look_1 3 rfl rfl)
theorem dX1_look_28 : decode cX1_look 28 = .ok (.goto 22, 3) := dk_167 0 22 (dk_at dksX1_look_1 6 rfl rfl)
theorem dX1_look_31 : decode cX1_look 31 = .ok (.aload_n 0, 1) := dk_42 (dk_at dksX1_look_1 9 rfl rfl)
theorem dX1_look_32 : decode cX1_look 32 = .ok (.getfield 74, 3) := dk_180 0 74 (dk_at dksX1_look_1 10 rfl rfl)
theorem dX1_look_35 : decode cX1_look 35 = .ok (.iconst 0, 1) := dk_3 (dk_at dksX1_look_1 13 rfl rfl)
theorem dX1_look_36 : decode cX1_look 36 = .ok (.aload_n 0, 1) := dk_42 (dk_at dksX1_look_1 14 rfl rfl)
theorem dX1_look_37 : decode cX1_look 37 = .ok (.getfield 78, 3) := dk_180 0 78 (dk_at dksX1_look_1 15 rfl rfl)
theorem dX1_look_40 : decode cX1_look 40 = .ok (.iconst 5, 1) := dk_8 (dk_at dksX1_look_1 18 rfl rfl)
theorem dX1_look_41 : decode cX1_look 41 = .ok (.iload_n 2, 1) := dk_28 (dk_at dksX1_look_1 19 rfl rfl)
theorem dX1_look_42 : decode cX1_look 42 = .ok (.imul, 1) := dk_104 (dk_at dksX1_look_1 20 rfl rfl)
theorem dX1_look_43 : decode cX1_look 43 = .ok (.iconst 5, 1) := dk_8 (dk_at dksX1_look_1 21 rfl rfl)
theorem dX1_look_44 : decode cX1_look 44 = .ok (.invokestatic 468, 3) := dk_184 1 212 (dk_at dksX1_look_2 0 rfl rfl)
theorem dX1_look_47 : decode cX1_look 47 = .ok (.iinc 2 1, 3) := dk_132 2 1 (dk_at dksX1_look_2 3 rfl rfl)
theorem dX1_look_50 : decode cX1_look 50 = .ok (.iinc 3 1, 3) := dk_132 3 1 (dk_at dksX1_look_2 6 rfl rfl)
theorem dX1_look_53 : decode cX1_look 53 = .ok (.goto (-39), 3) := dk_167 255 217 (dk_at dksX1_look_2 9 rfl rfl)
theorem dX1_look_56 : decode cX1_look 56 = .ok (.iconst (-1), 1) := dk_2 (dk_at dksX1_look_2 12 rfl rfl)
theorem dX1_look_57 : decode cX1_look 57 = .ok (.istore_n 3, 1) := dk_62 (dk_at dksX1_look_2 13 rfl rfl)
theorem dX1_look_58 : decode cX1_look 58 = .ok (.iconst 0, 1) := dk_3 (dk_at dksX1_look_2 14 rfl rfl)
theorem dX1_look_59 : decode cX1_look 59 = .ok (.istore 4, 2) := dk_54 4 (dk_at dksX1_look_2 15 rfl rfl)
theorem dX1_look_61 : decode cX1_look 61 = .ok (.iconst 0, 1) := dk_3 (dk_at dksX1_look_2 17 rfl rfl)
theorem dX1_look_62 : decode cX1_look 62 = .ok (.istore 5, 2) := dk_54 5 (dk_at dksX1_look_2 18 rfl rfl)
theorem dX1_look_64 : decode cX1_look 64 = .ok (.iload 5, 2) := dk_21 5 (dk_at dksX1_look_2 20 rfl rfl)
theorem dX1_look_66 : decode cX1_look 66 = .ok (.iconst 5, 1) := dk_8 (dk_at dksX1_look_2 22 rfl rfl)
theorem dX1_look_67 : decode cX1_look 67 = .ok (.if_icmp .ge 40, 3) := dk_162 0 40 (dk_at dksX1_look_3 0 rfl rfl)
theorem dX1_look_70 : decode cX1_look 70 = .ok (.aload_n 0, 1) := dk_42 (dk_at dksX1_look_3 3 rfl rfl)
theorem dX1_look_71 : decode cX1_look 71 = .ok (.iload 5, 2) := dk_21 5 (dk_at dksX1_look_3 4 rfl rfl)
theorem dX1_look_73 : decode cX1_look 73 = .ok (.iload_n 2, 1) := dk_28 (dk_at dksX1_look_3 6 rfl rfl)
theorem dX1_look_74 : decode cX1_look 74 = .ok (.invokevirtual 474, 3) := dk_182 1 218 (dk_at dksX1_look_3 7 rfl rfl)
theorem dX1_look_77 : decode cX1_look 77 = .ok (.istore 6, 2) := dk_54 6 (dk_at dksX1_look_3 10 rfl rfl)
theorem dX1_look_79 : decode cX1_look 79 = .ok (.iload 6, 2) := dk_21 6 (dk_at dksX1_look_3 12 rfl rfl)
theorem dX1_look_81 : decode cX1_look 81 = .ok (.iload 4, 2) := dk_21 4 (dk_at dksX1_look_3 14 rfl rfl)
theorem dX1_look_83 : decode cX1_look 83 = .ok (.if_icmp .gt 6, 3) := dk_163 0 6 (dk_at dksX1_look_3 16 rfl rfl)
theorem dX1_look_86 : decode cX1_look 86 = .ok (.goto 15, 3) := dk_167 0 15 (dk_at dksX1_look_3 19 rfl rfl)
theorem dX1_look_89 : decode cX1_look 89 = .ok (.bipush 10, 2) := dk_16 10 (dk_at dksX1_look_3 22 rfl rfl)
theorem dX1_look_91 : decode cX1_look 91 = .ok (.iload 5, 2) := dk_21 5 (dk_at dksX1_look_4 0 rfl rfl)
theorem dX1_look_93 : decode cX1_look 93 = .ok (.iconst 1, 1) := dk_4 (dk_at dksX1_look_4 2 rfl rfl)
theorem dX1_look_94 : decode cX1_look 94 = .ok (.iadd, 1) := dk_96 (dk_at dksX1_look_4 3 rfl rfl)
theorem dX1_look_95 : decode cX1_look 95 = .ok (.imul, 1) := dk_104 (dk_at dksX1_look_4 4 rfl rfl)
theorem dX1_look_96 : decode cX1_look 96 = .ok (.istore_n 3, 1) := dk_62 (dk_at dksX1_look_4 5 rfl rfl)
theorem dX1_look_97 : decode cX1_look 97 = .ok (.iload 6, 2) := dk_21 6 (dk_at dksX1_look_4 6 rfl rfl)
theorem dX1_look_99 : decode cX1_look 99 = .ok (.istore 4, 2) := dk_54 4 (dk_at dksX1_look_4 8 rfl rfl)
theorem dX1_look_101 : decode cX1_look 101 = .ok (.iinc 5 1, 3) := dk_132 5 1 (dk_at dksX1_look_4 10 rfl rfl)
theorem dX1_look_104 : decode cX1_look 104 = .ok (.goto (-40), 3) := dk_167 255 216 (dk_at dksX1_look_4 13 rfl rfl)
theorem dX1_look_107 : decode cX1_look 107 = .ok (.iload_n 1, 1) := dk_27 (dk_at dksX1_look_4 16 rfl rfl)
theorem dX1_look_108 : decode cX1_look 108 = .ok (.ifCond .ne 7, 3) := dk_154 0 7 (dk_at dksX1_look_4 17 rfl rfl)
theorem dX1_look_111 : decode cX1_look 111 = .ok (.iload_n 3, 1) := dk_29 (dk_at dksX1_look_4 20 rfl rfl)
theorem dX1_look_112 : decode cX1_look 112 = .ok (.goto 5, 3) := dk_167 0 5 (dk_at dksX1_look_4 21 rfl rfl)
theorem dX1_look_115 : decode cX1_look 115 = .ok (.iload 4, 2) := dk_21 4 (dk_at dksX1_look_5 0 rfl rfl)
theorem dX1_look_117 : decode cX1_look 117 = .ok (.ireturn, 1) := dk_172 (dk_at dksX1_look_5 2 rfl rfl)
abbrev cX1_unlike : ByteArray := prog_1_method_42_code
def yX1_unlike : MethodName := ⟨RX1, "unlike", "(II)I"⟩
def dkwX1_unlike_2 : List UInt8 := [132, 5, 1, 167, 255, 221, 21, 5, 21, 4, 160, 0, 6, 132, 3, 1, 132, 4, 1, 167, 255, 196, 29, 172]
abbrev dktX1_unlike_2 : List UInt8 := dkwX1_unlike_2 ++ []
def dkwX1_unlike_1 : List UInt8 := [180, 0, 78, 8, 21, 5, 104, 27, 96, 46, 42, 180, 0, 78, 8, 21, 4, 104, 27, 96, 46, 159, 0, 9]
abbrev dktX1_unlike_1 : List UInt8 := dkwX1_unlike_1 ++ dktX1_unlike_2
def dkwX1_unlike_0 : List UInt8 := [3, 62, 3, 54, 4, 21, 4, 28, 162, 0, 60, 3, 54, 5, 21, 5, 21, 4, 162, 0, 34, 42]
abbrev dktX1_unlike_0 : List UInt8 := dkwX1_unlike_0 ++ dktX1_unlike_1
theorem dksX1_unlike_0 : cX1_unlike.data.toList.drop 0 = dktX1_unlike_0 := by decide +kernel
theorem dksX1_unlike_1 : cX1_unlike.data.toList.drop 22 = dktX1_unlike_1 := dk_seg dksX1_unlike_0 22 rfl rfl
theorem dksX1_unlike_2 : cX1_unlike.data.toList.drop 46 = dktX1_unlike_2 := dk_seg dksX1_unlike_1 24 rfl rfl
theorem dX1_unlike_0 : decode cX1_unlike 0 = .ok (.iconst 0, 1) := dk_3 (dk_at dksX1_unlike_0 0 rfl rfl)
theorem dX1_unlike_1 : decode cX1_unlike 1 = .ok (.istore_n 3, 1) := dk_62 (dk_at dksX1_unlike_0 1 rfl rfl)
theorem dX1_unlike_2 : decode cX1_unlike 2 = .ok (.iconst 0, 1) := dk_3 (dk_at dksX1_unlike_0 2 rfl rfl)
theorem dX1_unlike_3 : decode cX1_unlike 3 = .ok (.istore 4, 2) := dk_54 4 (dk_at dksX1_unlike_0 3 rfl rfl)
theorem dX1_unlike_5 : decode cX1_unlike 5 = .ok (.iload 4, 2) := dk_21 4 (dk_at dksX1_unlike_0 5 rfl rfl)
theorem dX1_unlike_7 : decode cX1_unlike 7 = .ok (.iload_n 2, 1) := dk_28 (dk_at dksX1_unlike_0 7 rfl rfl)
theorem dX1_unlike_8 : decode cX1_unlike 8 = .ok (.if_icmp .ge 60, 3) := dk_162 0 60 (dk_at dksX1_unlike_0 8 rfl rfl)
theorem dX1_unlike_11 : decode cX1_unlike 11 = .ok (.iconst 0, 1) := dk_3 (dk_at dksX1_unlike_0 11 rfl rfl)
theorem dX1_unlike_12 : decode cX1_unlike 12 = .ok (.istore 5, 2) := dk_54 5 (dk_at dksX1_unlike_0 12 rfl rfl)
theorem dX1_unlike_14 : decode cX1_unlike 14 = .ok (.iload 5, 2) := dk_21 5 (dk_at dksX1_unlike_0 14 rfl rfl)
theorem dX1_unlike_16 : decode cX1_unlike 16 = .ok (.iload 4, 2) := dk_21 4 (dk_at dksX1_unlike_0 16 rfl rfl)
theorem dX1_unlike_18 : decode cX1_unlike 18 = .ok (.if_icmp .ge 34, 3) := dk_162 0 34 (dk_at dksX1_unlike_0 18 rfl rfl)
theorem dX1_unlike_21 : decode cX1_unlike 21 = .ok (.aload_n 0, 1) := dk_42 (dk_at dksX1_unlike_0 21 rfl rfl)
theorem dX1_unlike_22 : decode cX1_unlike 22 = .ok (.getfield 78, 3) := dk_180 0 78 (dk_at dksX1_unlike_1 0 rfl rfl)
theorem dX1_unlike_25 : decode cX1_unlike 25 = .ok (.iconst 5, 1) := dk_8 (dk_at dksX1_unlike_1 3 rfl rfl)
theorem dX1_unlike_26 : decode cX1_unlike 26 = .ok (.iload 5, 2) := dk_21 5 (dk_at dksX1_unlike_1 4 rfl rfl)
theorem dX1_unlike_28 : decode cX1_unlike 28 = .ok (.imul, 1) := dk_104 (dk_at dksX1_unlike_1 6 rfl rfl)
theorem dX1_unlike_29 : decode cX1_unlike 29 = .ok (.iload_n 1, 1) := dk_27 (dk_at dksX1_unlike_1 7 rfl rfl)
theorem dX1_unlike_30 : decode cX1_unlike 30 = .ok (.iadd, 1) := dk_96 (dk_at dksX1_unlike_1 8 rfl rfl)
theorem dX1_unlike_31 : decode cX1_unlike 31 = .ok (.iaload, 1) := dk_46 (dk_at dksX1_unlike_1 9 rfl rfl)
theorem dX1_unlike_32 : decode cX1_unlike 32 = .ok (.aload_n 0, 1) := dk_42 (dk_at dksX1_unlike_1 10 rfl rfl)
theorem dX1_unlike_33 : decode cX1_unlike 33 = .ok (.getfield 78, 3) := dk_180 0 78 (dk_at dksX1_unlike_1 11 rfl rfl)
theorem dX1_unlike_36 : decode cX1_unlike 36 = .ok (.iconst 5, 1) := dk_8 (dk_at dksX1_unlike_1 14 rfl rfl)
theorem dX1_unlike_37 : decode cX1_unlike 37 = .ok (.iload 4, 2) := dk_21 4 (dk_at dksX1_unlike_1 15 rfl rfl)
theorem dX1_unlike_39 : decode cX1_unlike 39 = .ok (.imul, 1) := dk_104 (dk_at dksX1_unlike_1 17 rfl rfl)
theorem dX1_unlike_40 : decode cX1_unlike 40 = .ok (.iload_n 1, 1) := dk_27 (dk_at dksX1_unlike_1 18 rfl rfl)
theorem dX1_unlike_41 : decode cX1_unlike 41 = .ok (.iadd, 1) := dk_96 (dk_at dksX1_unlike_1 19 rfl rfl)
theorem dX1_unlike_42 : decode cX1_unlike 42 = .ok (.iaload, 1) := dk_46 (dk_at dksX1_unlike_1 20 rfl rfl)
theorem dX1_unlike_43 : decode cX1_unlike 43 = .ok (.if_icmp .eq 9, 3) := dk_159 0 9 (dk_at dksX1_unlike_1 21 rfl rfl)
theorem dX1_unlike_46 : decode cX1_unlike 46 = .ok (.iinc 5 1, 3) := dk_132 5 1 (dk_at dksX1_unlike_2 0 rfl rfl)
theorem dX1_unlike_49 : decode cX1_unlike 49 = .ok (.goto (-35), 3) := dk_167 255 221 (dk_at dksX1_unlike_2 3 rfl rfl)
theorem dX1_unlike_52 : decode cX1_unlike 52 = .ok (.iload 5, 2) := dk_21 5 (dk_at dksX1_unlike_2 6 rfl rfl)
theorem dX1_unlike_54 : decode cX1_unlike 54 = .ok (.iload 4, 2) := dk_21 4 (dk_at dksX1_unlike_2 8 rfl rfl)
theorem dX1_unlike_56 : decode cX1_unlike 56 = .ok (.if_icmp .ne 6, 3) := dk_160 0 6 (dk_at dksX1_unlike_2 10 rfl rfl)
theorem dX1_unlike_59 : decode cX1_unlike 59 = .ok (.iinc 3 1, 3) := dk_132 3 1 (dk_at dksX1_unlike_2 13 rfl rfl)
theorem dX1_unlike_62 : decode cX1_unlike 62 = .ok (.iinc 4 1, 3) := dk_132 4 1 (dk_at dksX1_unlike_2 16 rfl rfl)
theorem dX1_unlike_65 : decode cX1_unlike 65 = .ok (.goto (-60), 3) := dk_167 255 196 (dk_at dksX1_unlike_2 19 rfl rfl)
theorem dX1_unlike_68 : decode cX1_unlike 68 = .ok (.iload_n 3, 1) := dk_29 (dk_at dksX1_unlike_2 22 rfl rfl)
theorem dX1_unlike_69 : decode cX1_unlike 69 = .ok (.ireturn, 1) := dk_172 (dk_at dksX1_unlike_2 23 rfl rfl)
abbrev cX1_storms : ByteArray := prog_1_method_45_code
def yX1_storms : MethodName := ⟨RX1, "storms", "(II)I"⟩
def dkwX1_storms_6 : List UInt8 := [29, 172]
abbrev dktX1_storms_6 : List UInt8 := dkwX1_storms_6 ++ []
def dkwX1_storms_5 : List UInt8 := [180, 0, 211, 42, 180, 0, 30, 180, 0, 211, 160, 0, 8, 29, 21, 5, 96, 62, 132, 4, 1, 167, 255, 149]
abbrev dktX1_storms_5 : List UInt8 := dkwX1_storms_5 ++ dktX1_storms_6
def dkwX1_storms_4 : List UInt8 := [180, 0, 34, 21, 4, 181, 1, 224, 42, 42, 180, 0, 34, 16, 80, 182, 1, 141, 42, 180, 0, 34]
abbrev dktX1_storms_4 : List UInt8 := dkwX1_storms_4 ++ dktX1_storms_5
def dkwX1_storms_3 : List UInt8 := [100, 104, 54, 5, 132, 6, 1, 167, 255, 223, 42, 3, 182, 1, 155, 42, 180, 0, 34, 27, 181, 1, 221, 42]
abbrev dktX1_storms_3 : List UInt8 := dkwX1_storms_3 ++ dktX1_storms_4
def dkwX1_storms_2 : List UInt8 := [27, 162, 0, 33, 21, 5, 21, 4, 21, 6, 122, 4, 126, 4, 160, 0, 7, 28, 167, 0, 7, 16, 10, 28]
abbrev dktX1_storms_2 : List UInt8 := dkwX1_storms_2 ++ dktX1_storms_3
def dkwX1_storms_1 : List UInt8 := [184, 0, 137, 3, 62, 3, 54, 4, 21, 4, 4, 27, 120, 162, 0, 105, 4, 54, 5, 3, 54, 6, 21, 6]
abbrev dktX1_storms_1 : List UInt8 := dkwX1_storms_1 ++ dktX1_storms_2
def dkwX1_storms_0 : List UInt8 := [27, 4, 8, 184, 0, 180, 153, 0, 17, 28, 3, 16, 10, 184, 0, 180, 153, 0, 7, 4, 167, 0, 4, 3]
abbrev dktX1_storms_0 : List UInt8 := dkwX1_storms_0 ++ dktX1_storms_1
theorem dksX1_storms_0 : cX1_storms.data.toList.drop 0 = dktX1_storms_0 := by decide +kernel
theorem dksX1_storms_1 : cX1_storms.data.toList.drop 24 = dktX1_storms_1 := dk_seg dksX1_storms_0 24 rfl rfl
theorem dksX1_storms_2 : cX1_storms.data.toList.drop 48 = dktX1_storms_2 := dk_seg dksX1_storms_1 24 rfl rfl
theorem dksX1_storms_3 : cX1_storms.data.toList.drop 72 = dktX1_storms_3 := dk_seg dksX1_storms_2 24 rfl rfl
theorem dksX1_storms_4 : cX1_storms.data.toList.drop 96 = dktX1_storms_4 := dk_seg dksX1_storms_3 24 rfl rfl
theorem dksX1_storms_5 : cX1_storms.data.toList.drop 118 = dktX1_storms_5 := dk_seg dksX1_storms_4 22 rfl rfl
theorem dksX1_storms_6 : cX1_storms.data.toList.drop 142 = dktX1_storms_6 := dk_seg dksX1_storms_5 24 rfl rfl
theorem dX1_storms_0 : decode cX1_storms 0 = .ok (.iload_n 1, 1) := dk_27 (dk_at dksX1_storms_0 0 rfl rfl)
theorem dX1_storms_1 : decode cX1_storms 1 = .ok (.iconst 1, 1) := dk_4 (dk_at dksX1_storms_0 1 rfl rfl)
theorem dX1_storms_2 : decode cX1_storms 2 = .ok (.iconst 5, 1) := dk_8 (dk_at dksX1_storms_0 2 rfl rfl)
theorem dX1_storms_3 : decode cX1_storms 3 = .ok (.invokestatic 180, 3) := dk_184 0 180 (dk_at dksX1_storms_0 3 rfl rfl)
theorem dX1_storms_6 : decode cX1_storms 6 = .ok (.ifCond .eq 17, 3) := dk_153 0 17 (dk_at dksX1_storms_0 6 rfl rfl)
theorem dX1_storms_9 : decode cX1_storms 9 = .ok (.iload_n 2, 1) := dk_28 (dk_at dksX1_storms_0 9 rfl rfl)
theorem dX1_storms_10 : decode cX1_storms 10 = .ok (.iconst 0, 1) := dk_3 (dk_at dksX1_storms_0 10 rfl rfl)
theorem dX1_storms_11 : decode cX1_storms 11 = .ok (.bipush 10, 2) := dk_16 10 (dk_at dksX1_storms_0 11 rfl rfl)
theorem dX1_storms_13 : decode cX1_storms 13 = .ok (.invokestatic 180, 3) := dk_184 0 180 (dk_at dksX1_storms_0 13 rfl rfl)
theorem dX1_storms_16 : decode cX1_storms 16 = .ok (.ifCond .eq 7, 3) := dk_153 0 7 (dk_at dksX1_storms_0 16 rfl rfl)
theorem dX1_storms_19 : decode cX1_storms 19 = .ok (.iconst 1, 1) := dk_4 (dk_at dksX1_storms_0 19 rfl rfl)
theorem dX1_storms_20 : decode cX1_storms 20 = .ok (.goto 4, 3) := dk_167 0 4 (dk_at dksX1_storms_0 20 rfl rfl)
theorem dX1_storms_23 : decode cX1_storms 23 = .ok (.iconst 0, 1) := dk_3 (dk_at dksX1_storms_0 23 rfl rfl)
theorem dX1_storms_24 : decode cX1_storms 24 = .ok (.invokestatic 137, 3) := dk_184 0 137 (dk_at dksX1_storms_1 0 rfl rfl)
theorem dX1_storms_27 : decode cX1_storms 27 = .ok (.iconst 0, 1) := dk_3 (dk_at dksX1_storms_1 3 rfl rfl)
theorem dX1_storms_28 : decode cX1_storms 28 = .ok (.istore_n 3, 1) := dk_62 (dk_at dksX1_storms_1 4 rfl rfl)
theorem dX1_storms_29 : decode cX1_storms 29 = .ok (.iconst 0, 1) := dk_3 (dk_at dksX1_storms_1 5 rfl rfl)
theorem dX1_storms_30 : decode cX1_storms 30 = .ok (.istore 4, 2) := dk_54 4 (dk_at dksX1_storms_1 6 rfl rfl)
theorem dX1_storms_32 : decode cX1_storms 32 = .ok (.iload 4, 2) := dk_21 4 (dk_at dksX1_storms_1 8 rfl rfl)
theorem dX1_storms_34 : decode cX1_storms 34 = .ok (.iconst 1, 1) := dk_4 (dk_at dksX1_storms_1 10 rfl rfl)
theorem dX1_storms_35 : decode cX1_storms 35 = .ok (.iload_n 1, 1) := dk_27 (dk_at dksX1_storms_1 11 rfl rfl)
theorem dX1_storms_36 : decode cX1_storms 36 = .ok (.ishl, 1) := dk_120 (dk_at dksX1_storms_1 12 rfl rfl)
theorem dX1_storms_37 : decode cX1_storms 37 = .ok (.if_icmp .ge 105, 3) := dk_162 0 105 (dk_at dksX1_storms_1 13 rfl rfl)
theorem dX1_storms_40 : decode cX1_storms 40 = .ok (.iconst 1, 1) := dk_4 (dk_at dksX1_storms_1 16 rfl rfl)
theorem dX1_storms_41 : decode cX1_storms 41 = .ok (.istore 5, 2) := dk_54 5 (dk_at dksX1_storms_1 17 rfl rfl)
theorem dX1_storms_43 : decode cX1_storms 43 = .ok (.iconst 0, 1) := dk_3 (dk_at dksX1_storms_1 19 rfl rfl)
theorem dX1_storms_44 : decode cX1_storms 44 = .ok (.istore 6, 2) := dk_54 6 (dk_at dksX1_storms_1 20 rfl rfl)
theorem dX1_storms_46 : decode cX1_storms 46 = .ok (.iload 6, 2) := dk_21 6 (dk_at dksX1_storms_1 22 rfl rfl)
theorem dX1_storms_48 : decode cX1_storms 48 = .ok (.iload_n 1, 1) := dk_27 (dk_at dksX1_storms_2 0 rfl rfl)
theorem dX1_storms_49 : decode cX1_storms 49 = .ok (.if_icmp .ge 33, 3) := dk_162 0 33 (dk_at dksX1_storms_2 1 rfl rfl)
theorem dX1_storms_52 : decode cX1_storms 52 = .ok (.iload 5, 2) := dk_21 5 (dk_at dksX1_storms_2 4 rfl rfl)
theorem dX1_storms_54 : decode cX1_storms 54 = .ok (.iload 4, 2) := dk_21 4 (dk_at dksX1_storms_2 6 rfl rfl)
theorem dX1_storms_56 : decode cX1_storms 56 = .ok (.iload 6, 2) := dk_21 6 (dk_at dksX1_storms_2 8 rfl rfl)
theorem dX1_storms_58 : decode cX1_storms 58 = .ok (.ishr, 1) := dk_122 (dk_at dksX1_storms_2 10 rfl rfl)
theorem dX1_storms_59 : decode cX1_storms 59 = .ok (.iconst 1, 1) := dk_4 (dk_at dksX1_storms_2 11 rfl rfl)
theorem dX1_storms_60 : decode cX1_storms 60 = .ok (.iand, 1) := dk_126 (dk_at dksX1_storms_2 12 rfl rfl)
theorem dX1_storms_61 : decode cX1_storms 61 = .ok (.iconst 1, 1) := dk_4 (dk_at dksX1_storms_2 13 rfl rfl)
theorem dX1_storms_62 : decode cX1_storms 62 = .ok (.if_icmp .ne 7, 3) := dk_160 0 7 (dk_at dksX1_storms_2 14 rfl rfl)
theorem dX1_storms_65 : decode cX1_storms 65 = .ok (.iload_n 2, 1) := dk_28 (dk_at dksX1_storms_2 17 rfl rfl)
theorem dX1_storms_66 : decode cX1_storms 66 = .ok (.goto 7, 3) := dk_167 0 7 (dk_at dksX1_storms_2 18 rfl rfl)
theorem dX1_storms_69 : decode cX1_storms 69 = .ok (.bipush 10, 2) := dk_16 10 (dk_at dksX1_storms_2 21 rfl rfl)
theorem dX1_storms_71 : decode cX1_storms 71 = .ok (.iload_n 2, 1) := dk_28 (dk_at dksX1_storms_2 23 rfl rfl)
theorem dX1_storms_72 : decode cX1_storms 72 = .ok (.isub, 1) := dk_100 (dk_at dksX1_storms_3 0 rfl rfl)
theorem dX1_storms_73 : decode cX1_storms 73 = .ok (.imul, 1) := dk_104 (dk_at dksX1_storms_3 1 rfl rfl)
theorem dX1_storms_74 : decode cX1_storms 74 = .ok (.istore 5, 2) := dk_54 5 (dk_at dksX1_storms_3 2 rfl rfl)
theorem dX1_storms_76 : decode cX1_storms 76 = .ok (.iinc 6 1, 3) := dk_132 6 1 (dk_at dksX1_storms_3 4 rfl rfl)
theorem dX1_storms_79 : decode cX1_storms 79 = .ok (.goto (-33), 3) := dk_167 255 223 (dk_at dksX1_storms_3 7 rfl rfl)
theorem dX1_storms_82 : decode cX1_storms 82 = .ok (.aload_n 0, 1) := dk_42 (dk_at dksX1_storms_3 10 rfl rfl)
theorem dX1_storms_83 : decode cX1_storms 83 = .ok (.iconst 0, 1) := dk_3 (dk_at dksX1_storms_3 11 rfl rfl)
theorem dX1_storms_84 : decode cX1_storms 84 = .ok (.invokevirtual 411, 3) := dk_182 1 155 (dk_at dksX1_storms_3 12 rfl rfl)
theorem dX1_storms_87 : decode cX1_storms 87 = .ok (.aload_n 0, 1) := dk_42 (dk_at dksX1_storms_3 15 rfl rfl)
theorem dX1_storms_88 : decode cX1_storms 88 = .ok (.getfield 34, 3) := dk_180 0 34 (dk_at dksX1_storms_3 16 rfl rfl)
theorem dX1_storms_91 : decode cX1_storms 91 = .ok (.iload_n 1, 1) := dk_27 (dk_at dksX1_storms_3 19 rfl rfl)
theorem dX1_storms_92 : decode cX1_storms 92 = .ok (.putfield 477, 3) := dk_181 1 221 (dk_at dksX1_storms_3 20 rfl rfl)
theorem dX1_storms_95 : decode cX1_storms 95 = .ok (.aload_n 0, 1) := dk_42 (dk_at dksX1_storms_3 23 rfl rfl)
theorem dX1_storms_96 : decode cX1_storms 96 = .ok (.getfield 34, 3) := dk_180 0 34 (dk_at dksX1_storms_4 0 rfl rfl)
theorem dX1_storms_99 : decode cX1_storms 99 = .ok (.iload 4, 2) := dk_21 4 (dk_at dksX1_storms_4 3 rfl rfl)
theorem dX1_storms_101 : decode cX1_storms 101 = .ok (.putfield 480, 3) := dk_181 1 224 (dk_at dksX1_storms_4 5 rfl rfl)
theorem dX1_storms_104 : decode cX1_storms 104 = .ok (.aload_n 0, 1) := dk_42 (dk_at dksX1_storms_4 8 rfl rfl)
theorem dX1_storms_105 : decode cX1_storms 105 = .ok (.aload_n 0, 1) := dk_42 (dk_at dksX1_storms_4 9 rfl rfl)
theorem dX1_storms_106 : decode cX1_storms 106 = .ok (.getfield 34, 3) := dk_180 0 34 (dk_at dksX1_storms_4 10 rfl rfl)
theorem dX1_storms_109 : decode cX1_storms 109 = .ok (.bipush 80, 2) := dk_16 80 (dk_at dksX1_storms_4 13 rfl rfl)
theorem dX1_storms_111 : decode cX1_storms 111 = .ok (.invokevirtual 397, 3) := dk_182 1 141 (dk_at dksX1_storms_4 15 rfl rfl)
theorem dX1_storms_114 : decode cX1_storms 114 = .ok (.aload_n 0, 1) := dk_42 (dk_at dksX1_storms_4 18 rfl rfl)
theorem dX1_storms_115 : decode cX1_storms 115 = .ok (.getfield 34, 3) := dk_180 0 34 (dk_at dksX1_storms_4 19 rfl rfl)
theorem dX1_storms_118 : decode cX1_storms 118 = .ok (.getfield 211, 3) := dk_180 0 211 (dk_at dksX1_storms_5 0 rfl rfl)
theorem dX1_storms_121 : decode cX1_storms 121 = .ok (.aload_n 0, 1) := dk_42 (dk_at dksX1_storms_5 3 rfl rfl)
theorem dX1_storms_122 : decode cX1_storms 122 = .ok (.getfield 30, 3) := dk_180 0 30 (dk_at dksX1_storms_5 4 rfl rfl)
theorem dX1_storms_125 : decode cX1_storms 125 = .ok (.getfield 211, 3) := dk_180 0 211 (dk_at dksX1_storms_5 7 rfl rfl)
theorem dX1_storms_128 : decode cX1_storms 128 = .ok (.if_icmp .ne 8, 3) := dk_160 0 8 (dk_at dksX1_storms_5 10 rfl rfl)
theorem dX1_storms_131 : decode cX1_storms 131 = .ok (.iload_n 3, 1) := dk_29 (dk_at dksX1_storms_5 13 rfl rfl)
theorem dX1_storms_132 : decode cX1_storms 132 = .ok (.iload 5, 2) := dk_21 5 (dk_at dksX1_storms_5 14 rfl rfl)
theorem dX1_storms_134 : decode cX1_storms 134 = .ok (.iadd, 1) := dk_96 (dk_at dksX1_storms_5 16 rfl rfl)
theorem dX1_storms_135 : decode cX1_storms 135 = .ok (.istore_n 3, 1) := dk_62 (dk_at dksX1_storms_5 17 rfl rfl)
theorem dX1_storms_136 : decode cX1_storms 136 = .ok (.iinc 4 1, 3) := dk_132 4 1 (dk_at dksX1_storms_5 18 rfl rfl)
theorem dX1_storms_139 : decode cX1_storms 139 = .ok (.goto (-107), 3) := dk_167 255 149 (dk_at dksX1_storms_5 21 rfl rfl)
theorem dX1_storms_142 : decode cX1_storms 142 = .ok (.iload_n 3, 1) := dk_29 (dk_at dksX1_storms_6 0 rfl rfl)
theorem dX1_storms_143 : decode cX1_storms 143 = .ok (.ireturn, 1) := dk_172 (dk_at dksX1_storms_6 1 rfl rfl)
abbrev cX1_years : ByteArray := prog_1_method_48_code
def yX1_years : MethodName := ⟨RX1, "years", "(III)I"⟩
def dkwX1_years_5 : List UInt8 := [180, 0, 231, 100, 167, 0, 5, 21, 4, 172]
abbrev dktX1_years_5 : List UInt8 := dkwX1_years_5 ++ []
def dkwX1_years_4 : List UInt8 := [180, 0, 211, 100, 167, 0, 28, 29, 4, 160, 0, 21, 42, 180, 0, 34, 180, 0, 231, 42, 180, 0, 30]
abbrev dktX1_years_4 : List UInt8 := dkwX1_years_4 ++ dktX1_years_5
def dkwX1_years_3 : List UInt8 := [54, 4, 132, 5, 1, 167, 255, 215, 29, 154, 0, 21, 42, 180, 0, 34, 180, 0, 211, 42, 180, 0, 30]
abbrev dktX1_years_3 : List UInt8 := dkwX1_years_3 ++ dktX1_years_4
def dkwX1_years_2 : List UInt8 := [180, 0, 34, 16, 10, 182, 1, 141, 21, 4, 42, 180, 0, 34, 42, 180, 0, 10, 182, 0, 214, 184, 1, 8]
abbrev dktX1_years_2 : List UInt8 := dkwX1_years_2 ++ dktX1_years_3
def dkwX1_years_1 : List UInt8 := [42, 27, 181, 1, 227, 3, 54, 4, 3, 54, 5, 21, 5, 28, 162, 0, 41, 42, 182, 1, 234, 42, 42]
abbrev dktX1_years_1 : List UInt8 := dkwX1_years_1 ++ dktX1_years_2
def dkwX1_years_0 : List UInt8 := [29, 3, 5, 184, 0, 180, 184, 0, 184, 28, 3, 16, 60, 184, 0, 180, 184, 0, 137, 42, 3, 182, 1, 155]
abbrev dktX1_years_0 : List UInt8 := dkwX1_years_0 ++ dktX1_years_1
theorem dksX1_years_0 : cX1_years.data.toList.drop 0 = dktX1_years_0 := by decide +kernel
theorem dksX1_years_1 : cX1_years.data.toList.drop 24 = dktX1_years_1 := dk_seg dksX1_years_0 24 rfl rfl
theorem dksX1_years_2 : cX1_years.data.toList.drop 47 = dktX1_years_2 := dk_seg dksX1_years_1 23 rfl rfl
theorem dksX1_years_3 : cX1_years.data.toList.drop 71 = dktX1_years_3 := dk_seg dksX1_years_2 24 rfl rfl
theorem dksX1_years_4 : cX1_years.data.toList.drop 94 = dktX1_years_4 := dk_seg dksX1_years_3 23 rfl rfl
theorem dksX1_years_5 : cX1_years.data.toList.drop 117 = dktX1_years_5 := dk_seg dksX1_years_4 23 rfl rfl
theorem dX1_years_0 : decode cX1_years 0 = .ok (.iload_n 3, 1) := dk_29 (dk_at dksX1_years_0 0 rfl rfl)
theorem dX1_years_1 : decode cX1_years 1 = .ok (.iconst 0, 1) := dk_3 (dk_at dksX1_years_0 1 rfl rfl)
theorem dX1_years_2 : decode cX1_years 2 = .ok (.iconst 2, 1) := dk_5 (dk_at dksX1_years_0 2 rfl rfl)
theorem dX1_years_3 : decode cX1_years 3 = .ok (.invokestatic 180, 3) := dk_184 0 180 (dk_at dksX1_years_0 3 rfl rfl)
theorem dX1_years_6 : decode cX1_years 6 = .ok (.invokestatic 184, 3) := dk_184 0 184 (dk_at dksX1_years_0 6 rfl rfl)
theorem dX1_years_9 : decode cX1_years 9 = .ok (.iload_n 2, 1) := dk_28 (dk_at dksX1_years_0 9 rfl rfl)
theorem dX1_years_10 : decode cX1_years 10 = .ok (.iconst 0, 1) := dk_3 (dk_at dksX1_years_0 10 rfl rfl)
theorem dX1_years_11 : decode cX1_years 11 = .ok (.bipush 60, 2) := dk_16 60 (dk_at dksX1_years_0 11 rfl rfl)
theorem dX1_years_13 : decode cX1_years 13 = .ok (.invokestatic 180, 3) := dk_184 0 180 (dk_at dksX1_years_0 13 rfl rfl)
theorem dX1_years_16 : decode cX1_years 16 = .ok (.invokestatic 137, 3) := dk_184 0 137 (dk_at dksX1_years_0 16 rfl rfl)
theorem dX1_years_19 : decode cX1_years 19 = .ok (.aload_n 0, 1) := dk_42 (dk_at dksX1_years_0 19 rfl rfl)
theorem dX1_years_20 : decode cX1_years 20 = .ok (.iconst 0, 1) := dk_3 (dk_at dksX1_years_0 20 rfl rfl)
theorem dX1_years_21 : decode cX1_years 21 = .ok (.invokevirtual 411, 3) := dk_182 1 155 (dk_at dksX1_years_0 21 rfl rfl)
theorem dX1_years_24 : decode cX1_years 24 = .ok (.aload_n 0, 1) := dk_42 (dk_at dksX1_years_1 0 rfl rfl)
theorem dX1_years_25 : decode cX1_years 25 = .ok (.iload_n 1, 1) := dk_27 (dk_at dksX1_years_1 1 rfl rfl)
theorem dX1_years_26 : decode cX1_years 26 = .ok (.putfield 483, 3) := dk_181 1 227 (dk_at dksX1_years_1 2 rfl rfl)
theorem dX1_years_29 : decode cX1_years 29 = .ok (.iconst 0, 1) := dk_3 (dk_at dksX1_years_1 5 rfl rfl)
theorem dX1_years_30 : decode cX1_years 30 = .ok (.istore 4, 2) := dk_54 4 (dk_at dksX1_years_1 6 rfl rfl)
theorem dX1_years_32 : decode cX1_years 32 = .ok (.iconst 0, 1) := dk_3 (dk_at dksX1_years_1 8 rfl rfl)
theorem dX1_years_33 : decode cX1_years 33 = .ok (.istore 5, 2) := dk_54 5 (dk_at dksX1_years_1 9 rfl rfl)
theorem dX1_years_35 : decode cX1_years 35 = .ok (.iload 5, 2) := dk_21 5 (dk_at dksX1_years_1 11 rfl rfl)
theorem dX1_years_37 : decode cX1_years 37 = .ok (.iload_n 2, 1) := dk_28 (dk_at dksX1_years_1 13 rfl rfl)
theorem dX1_years_38 : decode cX1_years 38 = .ok (.if_icmp .ge 41, 3) := dk_162 0 41 (dk_at dksX1_years_1 14 rfl rfl)
theorem dX1_years_41 : decode cX1_years 41 = .ok (.aload_n 0, 1) := dk_42 (dk_at dksX1_years_1 17 rfl rfl)
theorem dX1_years_42 : decode cX1_years 42 = .ok (.invokevirtual 490, 3) := dk_182 1 234 (dk_at dksX1_years_1 18 rfl rfl)
theorem dX1_years_45 : decode cX1_years 45 = .ok (.aload_n 0, 1) := dk_42 (dk_at dksX1_years_1 21 rfl rfl)
theorem dX1_years_46 : decode cX1_years 46 = .ok (.aload_n 0, 1) := dk_42 (dk_at dksX1_years_1 22 rfl rfl)
theorem dX1_years_47 : decode cX1_years 47 = .ok (.getfield 34, 3) := dk_180 0 34 (dk_at dksX1_years_2 0 rfl rfl)
theorem dX1_years_50 : decode cX1_years 50 = .ok (.bipush 10, 2) := dk_16 10 (dk_at dksX1_years_2 3 rfl rfl)
theorem dX1_years_52 : decode cX1_years 52 = .ok (.invokevirtual 397, 3) := dk_182 1 141 (dk_at dksX1_years_2 5 rfl rfl)
theorem dX1_years_55 : decode cX1_years 55 = .ok (.iload 4, 2) := dk_21 4 (dk_at dksX1_years_2 8 rfl rfl)
theorem dX1_years_57 : decode cX1_years 57 = .ok (.aload_n 0, 1) := dk_42 (dk_at dksX1_years_2 10 rfl rfl)
theorem dX1_years_58 : decode cX1_years 58 = .ok (.getfield 34, 3) := dk_180 0 34 (dk_at dksX1_years_2 11 rfl rfl)
theorem dX1_years_61 : decode cX1_years 61 = .ok (.aload_n 0, 1) := dk_42 (dk_at dksX1_years_2 14 rfl rfl)
theorem dX1_years_62 : decode cX1_years 62 = .ok (.getfield 10, 3) := dk_180 0 10 (dk_at dksX1_years_2 15 rfl rfl)
theorem dX1_years_65 : decode cX1_years 65 = .ok (.invokevirtual 214, 3) := dk_182 0 214 (dk_at dksX1_years_2 18 rfl rfl)
theorem dX1_years_68 : decode cX1_years 68 = .ok (.invokestatic 264, 3) := dk_184 1 8 (dk_at dksX1_years_2 21 rfl rfl)
theorem dX1_years_71 : decode cX1_years 71 = .ok (.istore 4, 2) := dk_54 4 (dk_at dksX1_years_3 0 rfl rfl)
theorem dX1_years_73 : decode cX1_years 73 = .ok (.iinc 5 1, 3) := dk_132 5 1 (dk_at dksX1_years_3 2 rfl rfl)
theorem dX1_years_76 : decode cX1_years 76 = .ok (.goto (-41), 3) := dk_167 255 215 (dk_at dksX1_years_3 5 rfl rfl)
theorem dX1_years_79 : decode cX1_years 79 = .ok (.iload_n 3, 1) := dk_29 (dk_at dksX1_years_3 8 rfl rfl)
theorem dX1_years_80 : decode cX1_years 80 = .ok (.ifCond .ne 21, 3) := dk_154 0 21 (dk_at dksX1_years_3 9 rfl rfl)
theorem dX1_years_83 : decode cX1_years 83 = .ok (.aload_n 0, 1) := dk_42 (dk_at dksX1_years_3 12 rfl rfl)
theorem dX1_years_84 : decode cX1_years 84 = .ok (.getfield 34, 3) := dk_180 0 34 (dk_at dksX1_years_3 13 rfl rfl)
theorem dX1_years_87 : decode cX1_years 87 = .ok (.getfield 211, 3) := dk_180 0 211 (dk_at dksX1_years_3 16 rfl rfl)
theorem dX1_years_90 : decode cX1_years 90 = .ok (.aload_n 0, 1) := dk_42 (dk_at dksX1_years_3 19 rfl rfl)
theorem dX1_years_91 : decode cX1_years 91 = .ok (.getfield 30, 3) := dk_180 0 30 (dk_at dksX1_years_3 20 rfl rfl)
theorem dX1_years_94 : decode cX1_years 94 = .ok (.getfield 211, 3) := dk_180 0 211 (dk_at dksX1_years_4 0 rfl rfl)
theorem dX1_years_97 : decode cX1_years 97 = .ok (.isub, 1) := dk_100 (dk_at dksX1_years_4 3 rfl rfl)
theorem dX1_years_98 : decode cX1_years 98 = .ok (.goto 28, 3) := dk_167 0 28 (dk_at dksX1_years_4 4 rfl rfl)
theorem dX1_years_101 : decode cX1_years 101 = .ok (.iload_n 3, 1) := dk_29 (dk_at dksX1_years_4 7 rfl rfl)
theorem dX1_years_102 : decode cX1_years 102 = .ok (.iconst 1, 1) := dk_4 (dk_at dksX1_years_4 8 rfl rfl)
theorem dX1_years_103 : decode cX1_years 103 = .ok (.if_icmp .ne 21, 3) := dk_160 0 21 (dk_at dksX1_years_4 9 rfl rfl)
theorem dX1_years_106 : decode cX1_years 106 = .ok (.aload_n 0, 1) := dk_42 (dk_at dksX1_years_4 12 rfl rfl)
theorem dX1_years_107 : decode cX1_years 107 = .ok (.getfield 34, 3) := dk_180 0 34 (dk_at dksX1_years_4 13 rfl rfl)
theorem dX1_years_110 : decode cX1_years 110 = .ok (.getfield 231, 3) := dk_180 0 231 (dk_at dksX1_years_4 16 rfl rfl)
theorem dX1_years_113 : decode cX1_years 113 = .ok (.aload_n 0, 1) := dk_42 (dk_at dksX1_years_4 19 rfl rfl)
theorem dX1_years_114 : decode cX1_years 114 = .ok (.getfield 30, 3) := dk_180 0 30 (dk_at dksX1_years_4 20 rfl rfl)
theorem dX1_years_117 : decode cX1_years 117 = .ok (.getfield 231, 3) := dk_180 0 231 (dk_at dksX1_years_5 0 rfl rfl)
theorem dX1_years_120 : decode cX1_years 120 = .ok (.isub, 1) := dk_100 (dk_at dksX1_years_5 3 rfl rfl)
theorem dX1_years_121 : decode cX1_years 121 = .ok (.goto 5, 3) := dk_167 0 5 (dk_at dksX1_years_5 4 rfl rfl)
theorem dX1_years_124 : decode cX1_years 124 = .ok (.iload 4, 2) := dk_21 4 (dk_at dksX1_years_5 7 rfl rfl)
theorem dX1_years_126 : decode cX1_years 126 = .ok (.ireturn, 1) := dk_172 (dk_at dksX1_years_5 9 rfl rfl)
abbrev cX1_happens : ByteArray := prog_1_method_47_code
def yX1_happens : MethodName := ⟨RX1, "happens", "()V"⟩
def dkwX1_happens_4 : List UInt8 := [181, 0, 255, 167, 0, 3, 177]
abbrev dktX1_happens_4 : List UInt8 := dkwX1_happens_4 ++ []
def dkwX1_happens_3 : List UInt8 := [182, 1, 231, 181, 1, 20, 167, 0, 22, 42, 180, 0, 34, 42, 16, 41, 182, 1, 231, 16, 20, 100]
abbrev dktX1_happens_3 : List UInt8 := dkwX1_happens_3 ++ dktX1_happens_4
def dkwX1_happens_2 : List UInt8 := [42, 180, 0, 34, 42, 7, 182, 1, 231, 181, 1, 17, 167, 0, 38, 42, 180, 0, 34, 42, 16, 12]
abbrev dktX1_happens_2 : List UInt8 := dkwX1_happens_2 ++ dktX1_happens_3
def dkwX1_happens_1 : List UInt8 := [170, 0, 0, 0, 0, 0, 77, 0, 0, 0, 0, 0, 0, 0, 2, 0, 0, 0, 27, 0, 0, 0, 42, 0, 0, 0, 58]
abbrev dktX1_happens_1 : List UInt8 := dkwX1_happens_1 ++ dktX1_happens_2
def dkwX1_happens_0 : List UInt8 := [42, 8, 182, 1, 231]
abbrev dktX1_happens_0 : List UInt8 := dkwX1_happens_0 ++ dktX1_happens_1
theorem dksX1_happens_0 : cX1_happens.data.toList.drop 0 = dktX1_happens_0 := by decide +kernel
theorem dksX1_happens_1 : cX1_happens.data.toList.drop 5 = dktX1_happens_1 := dk_seg dksX1_happens_0 5 rfl rfl
theorem dksX1_happens_2 : cX1_happens.data.toList.drop 32 = dktX1_happens_2 := dk_seg dksX1_happens_1 27 rfl rfl
theorem dksX1_happens_3 : cX1_happens.data.toList.drop 54 = dktX1_happens_3 := dk_seg dksX1_happens_2 22 rfl rfl
theorem dksX1_happens_4 : cX1_happens.data.toList.drop 76 = dktX1_happens_4 := dk_seg dksX1_happens_3 22 rfl rfl
theorem dX1_happens_0 : decode cX1_happens 0 = .ok (.aload_n 0, 1) := dk_42 (dk_at dksX1_happens_0 0 rfl rfl)
theorem dX1_happens_1 : decode cX1_happens 1 = .ok (.iconst 5, 1) := dk_8 (dk_at dksX1_happens_0 1 rfl rfl)
theorem dX1_happens_2 : decode cX1_happens 2 = .ok (.invokevirtual 487, 3) := dk_182 1 231 (dk_at dksX1_happens_0 2 rfl rfl)
theorem dX1_happens_5 : decode cX1_happens 5 = .ok (.tableswitch 77 0 2 #[27, 42, 58], 27) := by decide +kernel
theorem dX1_happens_32 : decode cX1_happens 32 = .ok (.aload_n 0, 1) := dk_42 (dk_at dksX1_happens_2 0 rfl rfl)
theorem dX1_happens_33 : decode cX1_happens 33 = .ok (.getfield 34, 3) := dk_180 0 34 (dk_at dksX1_happens_2 1 rfl rfl)
theorem dX1_happens_36 : decode cX1_happens 36 = .ok (.aload_n 0, 1) := dk_42 (dk_at dksX1_happens_2 4 rfl rfl)
theorem dX1_happens_37 : decode cX1_happens 37 = .ok (.iconst 4, 1) := dk_7 (dk_at dksX1_happens_2 5 rfl rfl)
theorem dX1_happens_38 : decode cX1_happens 38 = .ok (.invokevirtual 487, 3) := dk_182 1 231 (dk_at dksX1_happens_2 6 rfl rfl)
theorem dX1_happens_41 : decode cX1_happens 41 = .ok (.putfield 273, 3) := dk_181 1 17 (dk_at dksX1_happens_2 9 rfl rfl)
theorem dX1_happens_44 : decode cX1_happens 44 = .ok (.goto 38, 3) := dk_167 0 38 (dk_at dksX1_happens_2 12 rfl rfl)
theorem dX1_happens_47 : decode cX1_happens 47 = .ok (.aload_n 0, 1) := dk_42 (dk_at dksX1_happens_2 15 rfl rfl)
theorem dX1_happens_48 : decode cX1_happens 48 = .ok (.getfield 34, 3) := dk_180 0 34 (dk_at dksX1_happens_2 16 rfl rfl)
theorem dX1_happens_51 : decode cX1_happens 51 = .ok (.aload_n 0, 1) := dk_42 (dk_at dksX1_happens_2 19 rfl rfl)
theorem dX1_happens_52 : decode cX1_happens 52 = .ok (.bipush 12, 2) := dk_16 12 (dk_at dksX1_happens_2 20 rfl rfl)
theorem dX1_happens_54 : decode cX1_happens 54 = .ok (.invokevirtual 487, 3) := dk_182 1 231 (dk_at dksX1_happens_3 0 rfl rfl)
theorem dX1_happens_57 : decode cX1_happens 57 = .ok (.putfield 276, 3) := dk_181 1 20 (dk_at dksX1_happens_3 3 rfl rfl)
theorem dX1_happens_60 : decode cX1_happens 60 = .ok (.goto 22, 3) := dk_167 0 22 (dk_at dksX1_happens_3 6 rfl rfl)
theorem dX1_happens_63 : decode cX1_happens 63 = .ok (.aload_n 0, 1) := dk_42 (dk_at dksX1_happens_3 9 rfl rfl)
theorem dX1_happens_64 : decode cX1_happens 64 = .ok (.getfield 34, 3) := dk_180 0 34 (dk_at dksX1_happens_3 10 rfl rfl)
theorem dX1_happens_67 : decode cX1_happens 67 = .ok (.aload_n 0, 1) := dk_42 (dk_at dksX1_happens_3 13 rfl rfl)
theorem dX1_happens_68 : decode cX1_happens 68 = .ok (.bipush 41, 2) := dk_16 41 (dk_at dksX1_happens_3 14 rfl rfl)
theorem dX1_happens_70 : decode cX1_happens 70 = .ok (.invokevirtual 487, 3) := dk_182 1 231 (dk_at dksX1_happens_3 16 rfl rfl)
theorem dX1_happens_73 : decode cX1_happens 73 = .ok (.bipush 20, 2) := dk_16 20 (dk_at dksX1_happens_3 19 rfl rfl)
theorem dX1_happens_75 : decode cX1_happens 75 = .ok (.isub, 1) := dk_100 (dk_at dksX1_happens_3 21 rfl rfl)
theorem dX1_happens_76 : decode cX1_happens 76 = .ok (.putfield 255, 3) := dk_181 0 255 (dk_at dksX1_happens_4 0 rfl rfl)
theorem dX1_happens_79 : decode cX1_happens 79 = .ok (.goto 3, 3) := dk_167 0 3 (dk_at dksX1_happens_4 3 rfl rfl)
theorem dX1_happens_82 : decode cX1_happens 82 = .ok (.return_, 1) := dk_177 (dk_at dksX1_happens_4 6 rfl rfl)
abbrev cX1_draw : ByteArray := prog_1_method_46_code
def yX1_draw : MethodName := ⟨RX1, "draw", "(I)I"⟩
def dkwX1_draw_1 : List UInt8 := [17, 127, 255, 126, 27, 112, 172]
abbrev dktX1_draw_1 : List UInt8 := dkwX1_draw_1 ++ []
def dkwX1_draw_0 : List UInt8 := [42, 42, 180, 1, 227, 19, 1, 230, 104, 17, 48, 57, 96, 181, 1, 227, 42, 180, 1, 227, 16, 16, 122]
abbrev dktX1_draw_0 : List UInt8 := dkwX1_draw_0 ++ dktX1_draw_1
theorem dksX1_draw_0 : cX1_draw.data.toList.drop 0 = dktX1_draw_0 := by decide +kernel
theorem dksX1_draw_1 : cX1_draw.data.toList.drop 23 = dktX1_draw_1 := dk_seg dksX1_draw_0 23 rfl rfl
theorem dX1_draw_0 : decode cX1_draw 0 = .ok (.aload_n 0, 1) := dk_42 (dk_at dksX1_draw_0 0 rfl rfl)
theorem dX1_draw_1 : decode cX1_draw 1 = .ok (.aload_n 0, 1) := dk_42 (dk_at dksX1_draw_0 1 rfl rfl)
theorem dX1_draw_2 : decode cX1_draw 2 = .ok (.getfield 483, 3) := dk_180 1 227 (dk_at dksX1_draw_0 2 rfl rfl)
theorem dX1_draw_5 : decode cX1_draw 5 = .ok (.ldc_w 486, 3) := dk_19 1 230 (dk_at dksX1_draw_0 5 rfl rfl)
theorem dX1_draw_8 : decode cX1_draw 8 = .ok (.imul, 1) := dk_104 (dk_at dksX1_draw_0 8 rfl rfl)
theorem dX1_draw_9 : decode cX1_draw 9 = .ok (.sipush 12345, 3) := dk_17 48 57 (dk_at dksX1_draw_0 9 rfl rfl)
theorem dX1_draw_12 : decode cX1_draw 12 = .ok (.iadd, 1) := dk_96 (dk_at dksX1_draw_0 12 rfl rfl)
theorem dX1_draw_13 : decode cX1_draw 13 = .ok (.putfield 483, 3) := dk_181 1 227 (dk_at dksX1_draw_0 13 rfl rfl)
theorem dX1_draw_16 : decode cX1_draw 16 = .ok (.aload_n 0, 1) := dk_42 (dk_at dksX1_draw_0 16 rfl rfl)
theorem dX1_draw_17 : decode cX1_draw 17 = .ok (.getfield 483, 3) := dk_180 1 227 (dk_at dksX1_draw_0 17 rfl rfl)
theorem dX1_draw_20 : decode cX1_draw 20 = .ok (.bipush 16, 2) := dk_16 16 (dk_at dksX1_draw_0 20 rfl rfl)
theorem dX1_draw_22 : decode cX1_draw 22 = .ok (.ishr, 1) := dk_122 (dk_at dksX1_draw_0 22 rfl rfl)
theorem dX1_draw_23 : decode cX1_draw 23 = .ok (.sipush 32767, 3) := dk_17 127 255 (dk_at dksX1_draw_1 0 rfl rfl)
theorem dX1_draw_26 : decode cX1_draw 26 = .ok (.iand, 1) := dk_126 (dk_at dksX1_draw_1 3 rfl rfl)
theorem dX1_draw_27 : decode cX1_draw 27 = .ok (.iload_n 1, 1) := dk_27 (dk_at dksX1_draw_1 4 rfl rfl)
theorem dX1_draw_28 : decode cX1_draw 28 = .ok (.irem, 1) := dk_112 (dk_at dksX1_draw_1 5 rfl rfl)
theorem dX1_draw_29 : decode cX1_draw 29 = .ok (.ireturn, 1) := dk_172 (dk_at dksX1_draw_1 6 rfl rfl)
theorem q116 : (Jvm.Cond.initialized "CircuitCells") ∈ lw_all := lw_g (lw_at lw_m1 1 rfl) rfl
theorem q171 : (Jvm.Cond.instantiable "CircuitCells" (17 : Nat)) ∈ lw_all := lw_g (lw_at lw_m1 56 rfl) rfl
theorem q173 : (Jvm.Cond.instanceMethod ({ cls := "CircuitCells", name := "<init>", desc := "()V" } : Jvm.MethodName)) ∈ lw_all := lw_g (lw_at lw_m1 58 rfl) rfl
theorem q174 : (Jvm.Cond.code ({ cls := "CircuitCells", name := "<init>", desc := "()V" } : Jvm.MethodName) prog_1_method_1_code (1 : Nat) (Option.none : Option Jvm.ClassFile.FieldType)) ∈ lw_all := lw_g (lw_at lw_m1 59 rfl) rfl
theorem q175 : (Jvm.Cond.methodLink "CircuitCells" (1 : Nat) ({ cls := "java/lang/Object", name := "<init>", desc := "()V" } : Jvm.MethodName)) ∈ lw_all := lw_g (lw_at lw_m1 60 rfl) rfl
theorem q178 : (Jvm.Cond.classLink "CircuitCells" (7 : Nat) "CircuitCells$Line") ∈ lw_all := lw_g (lw_at lw_m1 63 rfl) rfl
theorem q180 : (Jvm.Cond.methodLinkNest "CircuitCells" (9 : Nat) ({ cls := "CircuitCells$Line", name := "<init>", desc := "()V" } : Jvm.MethodName) "CircuitCells") ∈ lw_tbl := lw_at lw_m1 65 rfl
theorem q560 : (Jvm.Cond.fieldLinkNest "CircuitCells" (224 : Nat) "CircuitCells$Line" "size" "I" "CircuitCells") ∈ lw_tbl := lw_at lw_m2 205 rfl
theorem q572 : (Jvm.Cond.fieldLinkNest "CircuitCells" (252 : Nat) "CircuitCells$Line" "every" "I" "CircuitCells") ∈ lw_tbl := lw_at lw_m2 217 rfl
theorem q578 : (Jvm.Cond.fieldLinkNest "CircuitCells" (118 : Nat) "CircuitCells$Line" "frame" "I" "CircuitCells") ∈ lw_tbl := lw_at lw_m2 223 rfl
theorem q581 : (Jvm.Cond.fieldLinkNest "CircuitCells" (258 : Nat) "CircuitCells$Line" "word" "Ljava/util/ArrayList;" "CircuitCells") ∈ lw_tbl := lw_at lw_m2 226 rfl
theorem q612 : (Jvm.Cond.classLink "CircuitCells" (16 : Nat) "CircuitCells$Book") ∈ lw_all := lw_g (lw_at lw_m3 17 rfl) rfl
theorem q614 : (Jvm.Cond.methodLink "CircuitCells" (18 : Nat) ({ cls := "CircuitCells$Book", name := "<init>", desc := "()V" } : Jvm.MethodName)) ∈ lw_all := lw_g (lw_at lw_m3 19 rfl) rfl
theorem q649 : (Jvm.Cond.fieldLinkNest "CircuitCells" (187 : Nat) "CircuitCells$State" "time" "I" "CircuitCells") ∈ lw_tbl := lw_at lw_m3 54 rfl
theorem q651 : (Jvm.Cond.fieldLinkNest "CircuitCells" (190 : Nat) "CircuitCells$State" "made" "I" "CircuitCells") ∈ lw_tbl := lw_at lw_m3 56 rfl
theorem q653 : (Jvm.Cond.fieldLinkNest "CircuitCells" (193 : Nat) "CircuitCells$State" "sent" "I" "CircuitCells") ∈ lw_tbl := lw_at lw_m3 58 rfl
theorem q655 : (Jvm.Cond.fieldLinkNest "CircuitCells" (196 : Nat) "CircuitCells$State" "lost" "I" "CircuitCells") ∈ lw_tbl := lw_at lw_m3 60 rfl
theorem q657 : (Jvm.Cond.fieldLinkNest "CircuitCells" (202 : Nat) "CircuitCells$State" "late" "I" "CircuitCells") ∈ lw_tbl := lw_at lw_m3 62 rfl
theorem q659 : (Jvm.Cond.fieldLinkNest "CircuitCells" (205 : Nat) "CircuitCells$State" "beyond" "I" "CircuitCells") ∈ lw_tbl := lw_at lw_m3 64 rfl
theorem q661 : (Jvm.Cond.fieldLinkNest "CircuitCells" (208 : Nat) "CircuitCells$State" "played" "I" "CircuitCells") ∈ lw_tbl := lw_at lw_m3 66 rfl
theorem q663 : (Jvm.Cond.fieldLinkNest "CircuitCells" (211 : Nat) "CircuitCells$State" "filled" "I" "CircuitCells") ∈ lw_tbl := lw_at lw_m3 68 rfl
theorem q665 : (Jvm.Cond.fieldLinkNest "CircuitCells" (171 : Nat) "CircuitCells$State" "phase" "I" "CircuitCells") ∈ lw_tbl := lw_at lw_m3 70 rfl
theorem q667 : (Jvm.Cond.fieldLinkNest "CircuitCells" (279 : Nat) "CircuitCells$State" "farPhase" "I" "CircuitCells") ∈ lw_tbl := lw_at lw_m3 72 rfl
theorem q669 : (Jvm.Cond.fieldLinkNest "CircuitCells" (282 : Nat) "CircuitCells$State" "nearPhase" "I" "CircuitCells") ∈ lw_tbl := lw_at lw_m3 74 rfl
theorem q671 : (Jvm.Cond.fieldLinkNest "CircuitCells" (221 : Nat) "CircuitCells$State" "integral" "I" "CircuitCells") ∈ lw_tbl := lw_at lw_m3 76 rfl
theorem q673 : (Jvm.Cond.fieldLinkNest "CircuitCells" (218 : Nat) "CircuitCells$State" "control" "I" "CircuitCells") ∈ lw_tbl := lw_at lw_m3 78 rfl
theorem q675 : (Jvm.Cond.fieldLinkNest "CircuitCells" (286 : Nat) "CircuitCells$State" "error" "I" "CircuitCells") ∈ lw_tbl := lw_at lw_m3 80 rfl
theorem q677 : (Jvm.Cond.fieldLinkNest "CircuitCells" (285 : Nat) "CircuitCells$State" "place" "I" "CircuitCells") ∈ lw_tbl := lw_at lw_m3 82 rfl
theorem q683 : (Jvm.Cond.fieldLinkNest "CircuitCells" (174 : Nat) "CircuitCells$State" "age" "I" "CircuitCells") ∈ lw_tbl := lw_at lw_m3 88 rfl
theorem q685 : (Jvm.Cond.fieldLinkNest "CircuitCells" (177 : Nat) "CircuitCells$State" "spread" "I" "CircuitCells") ∈ lw_tbl := lw_at lw_m3 90 rfl
theorem q688 : (Jvm.Cond.fieldLinkNest "CircuitCells" (231 : Nat) "CircuitCells$State" "resets" "I" "CircuitCells") ∈ lw_tbl := lw_at lw_m3 93 rfl
theorem q690 : (Jvm.Cond.fieldLinkNest "CircuitCells" (234 : Nat) "CircuitCells$State" "wrong" "I" "CircuitCells") ∈ lw_tbl := lw_at lw_m3 95 rfl
theorem q692 : (Jvm.Cond.fieldLinkNest "CircuitCells" (237 : Nat) "CircuitCells$State" "samples" "I" "CircuitCells") ∈ lw_tbl := lw_at lw_m3 97 rfl
theorem q695 : (Jvm.Cond.fieldLinkNest "CircuitCells" (273 : Nat) "CircuitCells$State" "losses" "I" "CircuitCells") ∈ lw_tbl := lw_at lw_m3 100 rfl
theorem q697 : (Jvm.Cond.fieldLinkNest "CircuitCells" (276 : Nat) "CircuitCells$State" "stall" "I" "CircuitCells") ∈ lw_tbl := lw_at lw_m3 102 rfl
theorem q699 : (Jvm.Cond.fieldLinkNest "CircuitCells" (255 : Nat) "CircuitCells$State" "offset" "I" "CircuitCells") ∈ lw_tbl := lw_at lw_m3 104 rfl
theorem q701 : (Jvm.Cond.fieldLinkNest "CircuitCells" (270 : Nat) "CircuitCells$State" "fill" "I" "CircuitCells") ∈ lw_tbl := lw_at lw_m3 106 rfl
theorem q703 : (Jvm.Cond.fieldLinkNest "CircuitCells" (243 : Nat) "CircuitCells$State" "target" "I" "CircuitCells") ∈ lw_tbl := lw_at lw_m3 108 rfl
theorem q705 : (Jvm.Cond.fieldLinkNest "CircuitCells" (246 : Nat) "CircuitCells$State" "gainP" "I" "CircuitCells") ∈ lw_tbl := lw_at lw_m3 110 rfl
theorem q707 : (Jvm.Cond.fieldLinkNest "CircuitCells" (249 : Nat) "CircuitCells$State" "gainI" "I" "CircuitCells") ∈ lw_tbl := lw_at lw_m3 112 rfl
theorem q709 : (Jvm.Cond.fieldLinkNest "CircuitCells" (199 : Nat) "CircuitCells$State" "flying" "I" "CircuitCells") ∈ lw_tbl := lw_at lw_m3 114 rfl
theorem q711 : (Jvm.Cond.fieldLinkNest "CircuitCells" (289 : Nat) "CircuitCells$State" "packet" "[I" "CircuitCells") ∈ lw_tbl := lw_at lw_m3 116 rfl
theorem q713 : (Jvm.Cond.fieldLinkNest "CircuitCells" (292 : Nat) "CircuitCells$State" "due" "[I" "CircuitCells") ∈ lw_tbl := lw_at lw_m3 118 rfl
theorem q715 : (Jvm.Cond.fieldLinkNest "CircuitCells" (295 : Nat) "CircuitCells$State" "stamped" "[I" "CircuitCells") ∈ lw_tbl := lw_at lw_m3 120 rfl
theorem q717 : (Jvm.Cond.fieldLinkNest "CircuitCells" (298 : Nat) "CircuitCells$State" "spot" "[I" "CircuitCells") ∈ lw_tbl := lw_at lw_m3 122 rfl
theorem q719 : (Jvm.Cond.fieldLinkNest "CircuitCells" (301 : Nat) "CircuitCells$State" "lies" "[I" "CircuitCells") ∈ lw_tbl := lw_at lw_m3 124 rfl
theorem q724 : (Jvm.Cond.fieldLinkNest "CircuitCells" (496 : Nat) "CircuitCells$State" "hasDropped" "Z" "CircuitCells") ∈ lw_tbl := lw_at lw_m3 129 rfl
theorem q726 : (Jvm.Cond.fieldLinkNest "CircuitCells" (477 : Nat) "CircuitCells$State" "stormy" "I" "CircuitCells") ∈ lw_tbl := lw_at lw_m3 131 rfl
theorem q728 : (Jvm.Cond.fieldLinkNest "CircuitCells" (480 : Nat) "CircuitCells$State" "storm" "I" "CircuitCells") ∈ lw_tbl := lw_at lw_m3 133 rfl
theorem q730 : (Jvm.Cond.fieldLinkNest "CircuitCells" (453 : Nat) "CircuitCells$State" "course" "LCircuitCells$Course;" "CircuitCells") ∈ lw_tbl := lw_at lw_m3 135 rfl
theorem q851 : (Jvm.Cond.selects "CircuitCells" ({ cls := "java/lang/Object", name := "getClass", desc := "()Ljava/lang/Class;" } : Jvm.MethodName) ({ cls := "java/lang/Object", name := "getClass", desc := "()Ljava/lang/Class;" } : Jvm.MethodName)) ∈ lw_all := lw_g (lw_at lw_m4 16 rfl) rfl
theorem q892 : (Jvm.Cond.fieldLinkNest "CircuitCells" (26 : Nat) "CircuitCells$Book" "now" "LCircuitCells$State;" "CircuitCells") ∈ lw_tbl := lw_at lw_m4 57 rfl
theorem q894 : (Jvm.Cond.fieldLinkNest "CircuitCells" (400 : Nat) "CircuitCells$Book" "ahead" "Ljava/util/ArrayList;" "CircuitCells") ∈ lw_tbl := lw_at lw_m4 59 rfl
theorem q896 : (Jvm.Cond.fieldLinkNest "CircuitCells" (457 : Nat) "CircuitCells$Book" "when" "[I" "CircuitCells") ∈ lw_tbl := lw_at lw_m4 61 rfl
theorem q898 : (Jvm.Cond.fieldLinkNest "CircuitCells" (460 : Nat) "CircuitCells$Book" "level" "[I" "CircuitCells") ∈ lw_tbl := lw_at lw_m4 63 rfl
theorem q900 : (Jvm.Cond.fieldLinkNest "CircuitCells" (155 : Nat) "CircuitCells$Book" "refused" "[I" "CircuitCells") ∈ lw_tbl := lw_at lw_m4 65 rfl
theorem q902 : (Jvm.Cond.fieldLinkNest "CircuitCells" (161 : Nat) "CircuitCells$Book" "acts" "I" "CircuitCells") ∈ lw_tbl := lw_at lw_m4 67 rfl
theorem q904 : (Jvm.Cond.fieldLinkNest "CircuitCells" (164 : Nat) "CircuitCells$Book" "many" "I" "CircuitCells") ∈ lw_tbl := lw_at lw_m4 69 rfl
theorem q920 : (Jvm.Cond.classLink "CircuitCells" (31 : Nat) "CircuitCells$State") ∈ lw_all := lw_g (lw_at lw_m4 85 rfl) rfl
theorem q921 : (Jvm.Cond.methodLinkNest "CircuitCells" (33 : Nat) ({ cls := "CircuitCells$State", name := "<init>", desc := "()V" } : Jvm.MethodName) "CircuitCells") ∈ lw_tbl := lw_at lw_m4 86 rfl
theorem q922 : (Jvm.Cond.classLink "CircuitCells" (37 : Nat) "java/util/ArrayList") ∈ lw_all := lw_g (lw_at lw_m4 87 rfl) rfl
theorem q923 : (Jvm.Cond.methodLink "CircuitCells" (39 : Nat) ({ cls := "java/util/ArrayList", name := "<init>", desc := "(I)V" } : Jvm.MethodName)) ∈ lw_all := lw_g (lw_at lw_m4 88 rfl) rfl
theorem q924 : (Jvm.Cond.classLink "CircuitCells" (57 : Nat) "java/util/ArrayDeque") ∈ lw_all := lw_g (lw_at lw_m4 89 rfl) rfl
theorem q926 : (Jvm.Cond.methodLink "CircuitCells" (59 : Nat) ({ cls := "java/util/ArrayDeque", name := "<init>", desc := "()V" } : Jvm.MethodName)) ∈ lw_all := lw_g (lw_at lw_m4 91 rfl) rfl
theorem q941 : (Jvm.Cond.classLink "CircuitCells" (67 : Nat) "CircuitCells$Course") ∈ lw_all := lw_g (lw_at lw_m4 106 rfl) rfl
theorem q943 : (Jvm.Cond.methodLinkNest "CircuitCells" (69 : Nat) ({ cls := "CircuitCells$Course", name := "<init>", desc := "()V" } : Jvm.MethodName) "CircuitCells") ∈ lw_tbl := lw_at lw_m4 108 rfl
theorem q957 : (Jvm.Cond.classLink "CircuitCells" (81 : Nat) "CircuitCells$Filling") ∈ lw_all := lw_g (lw_at lw_m4 122 rfl) rfl
theorem q959 : (Jvm.Cond.static ({ cls := "CircuitCells", name := "lambda$new$0", desc := "(LCircuitCells$State;)I" } : Jvm.MethodName)) ∈ lw_all := lw_g (lw_at lw_m4 124 rfl) rfl
theorem q960 : (Jvm.Cond.code ({ cls := "CircuitCells", name := "lambda$new$0", desc := "(LCircuitCells$State;)I" } : Jvm.MethodName) prog_1_method_65_code (1 : Nat) (Option.some Jvm.ClassFile.FieldType.int)) ∈ lw_all := lw_g (lw_at lw_m4 125 rfl) rfl
theorem q961 : (Jvm.Cond.methodLink "CircuitCells" (121 : Nat) ({ cls := "CircuitCells$State", name := "back", desc := "(I)I" } : Jvm.MethodName)) ∈ lw_all := lw_g (lw_at lw_m4 126 rfl) rfl
theorem q965 : (Jvm.Cond.methodLink "CircuitCells" (87 : Nat) ({ cls := "CircuitCells$Filling", name := "<init>", desc := "(LCircuitCells$Fill;)V" } : Jvm.MethodName)) ∈ lw_all := lw_g (lw_at lw_m4 130 rfl) rfl
theorem q970 : (Jvm.Cond.fieldLinkNest "CircuitCells" (386 : Nat) "CircuitCells$Filling" "fill" "LCircuitCells$Fill;" "CircuitCells") ∈ lw_tbl := lw_at lw_m4 135 rfl
theorem q974 : (Jvm.Cond.methodLink "CircuitCells" (90 : Nat) ({ cls := "java/util/ArrayList", name := "add", desc := "(Ljava/lang/Object;)Z" } : Jvm.MethodName)) ∈ lw_all := lw_g (lw_at lw_m4 139 rfl) rfl
theorem q975 : (Jvm.Cond.static ({ cls := "CircuitCells", name := "idle", desc := "(LCircuitCells$State;)I" } : Jvm.MethodName)) ∈ lw_all := lw_g (lw_at lw_m4 140 rfl) rfl
theorem q976 : (Jvm.Cond.code ({ cls := "CircuitCells", name := "idle", desc := "(LCircuitCells$State;)I" } : Jvm.MethodName) prog_1_method_2_code (1 : Nat) (Option.some Jvm.ClassFile.FieldType.int)) ∈ lw_all := lw_g (lw_at lw_m4 141 rfl) rfl
theorem q977 : (Jvm.Cond.privateMethod ({ cls := "CircuitCells", name := "framed", desc := "(LCircuitCells$State;)I" } : Jvm.MethodName)) ∈ lw_tbl := lw_at lw_m4 142 rfl
theorem q978 : (Jvm.Cond.instanceMethod ({ cls := "CircuitCells", name := "framed", desc := "(LCircuitCells$State;)I" } : Jvm.MethodName)) ∈ lw_all := lw_g (lw_at lw_m4 143 rfl) rfl
theorem q979 : (Jvm.Cond.code ({ cls := "CircuitCells", name := "framed", desc := "(LCircuitCells$State;)I" } : Jvm.MethodName) prog_1_method_3_code (2 : Nat) (Option.some Jvm.ClassFile.FieldType.int)) ∈ lw_all := lw_g (lw_at lw_m4 144 rfl) rfl
theorem q980 : (Jvm.Cond.classLink "CircuitCells" (98 : Nat) "CircuitCells$Looking") ∈ lw_all := lw_g (lw_at lw_m4 145 rfl) rfl
theorem q982 : (Jvm.Cond.privateMethod ({ cls := "CircuitCells", name := "lambda$new$1", desc := "(LCircuitCells$State;)I" } : Jvm.MethodName)) ∈ lw_tbl := lw_at lw_m4 147 rfl
theorem q983 : (Jvm.Cond.instanceMethod ({ cls := "CircuitCells", name := "lambda$new$1", desc := "(LCircuitCells$State;)I" } : Jvm.MethodName)) ∈ lw_all := lw_g (lw_at lw_m4 148 rfl) rfl
theorem q984 : (Jvm.Cond.code ({ cls := "CircuitCells", name := "lambda$new$1", desc := "(LCircuitCells$State;)I" } : Jvm.MethodName) prog_1_method_64_code (2 : Nat) (Option.some Jvm.ClassFile.FieldType.int)) ∈ lw_all := lw_g (lw_at lw_m4 149 rfl) rfl
theorem q985 : (Jvm.Cond.methodLink "CircuitCells" (214 : Nat) ({ cls := "CircuitCells$State", name := "level", desc := "(LCircuitCells$Line;)I" } : Jvm.MethodName)) ∈ lw_all := lw_g (lw_at lw_m4 150 rfl) rfl
theorem q990 : (Jvm.Cond.methodLink "CircuitCells" (104 : Nat) ({ cls := "CircuitCells$Looking", name := "<init>", desc := "(LCircuitCells$Look;)V" } : Jvm.MethodName)) ∈ lw_all := lw_g (lw_at lw_m4 155 rfl) rfl
theorem q995 : (Jvm.Cond.fieldLinkNest "CircuitCells" (414 : Nat) "CircuitCells$Looking" "look" "LCircuitCells$Look;" "CircuitCells") ∈ lw_tbl := lw_at lw_m4 160 rfl
theorem q999 : (Jvm.Cond.static ({ cls := "CircuitCells", name := "lambda$new$2", desc := "(LCircuitCells$State;)I" } : Jvm.MethodName)) ∈ lw_all := lw_g (lw_at lw_m4 164 rfl) rfl
theorem q1000 : (Jvm.Cond.code ({ cls := "CircuitCells", name := "lambda$new$2", desc := "(LCircuitCells$State;)I" } : Jvm.MethodName) prog_1_method_63_code (1 : Nat) (Option.some Jvm.ClassFile.FieldType.int)) ∈ lw_all := lw_g (lw_at lw_m4 165 rfl) rfl
theorem q1001 : (Jvm.Cond.static ({ cls := "CircuitCells", name := "lambda$new$3", desc := "(LCircuitCells$State;)I" } : Jvm.MethodName)) ∈ lw_all := lw_g (lw_at lw_m4 166 rfl) rfl
theorem q1002 : (Jvm.Cond.code ({ cls := "CircuitCells", name := "lambda$new$3", desc := "(LCircuitCells$State;)I" } : Jvm.MethodName) prog_1_method_62_code (1 : Nat) (Option.some Jvm.ClassFile.FieldType.int)) ∈ lw_all := lw_g (lw_at lw_m4 167 rfl) rfl
theorem q1003 : (Jvm.Cond.static ({ cls := "CircuitCells", name := "lambda$new$4", desc := "(LCircuitCells$State;)I" } : Jvm.MethodName)) ∈ lw_all := lw_g (lw_at lw_m4 168 rfl) rfl
theorem q1004 : (Jvm.Cond.code ({ cls := "CircuitCells", name := "lambda$new$4", desc := "(LCircuitCells$State;)I" } : Jvm.MethodName) prog_1_method_61_code (1 : Nat) (Option.some Jvm.ClassFile.FieldType.int)) ∈ lw_all := lw_g (lw_at lw_m4 169 rfl) rfl
theorem q1005 : (Jvm.Cond.static ({ cls := "CircuitCells", name := "lambda$new$5", desc := "(LCircuitCells$State;)I" } : Jvm.MethodName)) ∈ lw_all := lw_g (lw_at lw_m4 170 rfl) rfl
theorem q1006 : (Jvm.Cond.code ({ cls := "CircuitCells", name := "lambda$new$5", desc := "(LCircuitCells$State;)I" } : Jvm.MethodName) prog_1_method_60_code (1 : Nat) (Option.some Jvm.ClassFile.FieldType.int)) ∈ lw_all := lw_g (lw_at lw_m4 171 rfl) rfl
theorem q1007 : (Jvm.Cond.static ({ cls := "CircuitCells", name := "lambda$new$6", desc := "(LCircuitCells$State;)I" } : Jvm.MethodName)) ∈ lw_all := lw_g (lw_at lw_m4 172 rfl) rfl
theorem q1008 : (Jvm.Cond.code ({ cls := "CircuitCells", name := "lambda$new$6", desc := "(LCircuitCells$State;)I" } : Jvm.MethodName) prog_1_method_59_code (1 : Nat) (Option.some Jvm.ClassFile.FieldType.int)) ∈ lw_all := lw_g (lw_at lw_m4 173 rfl) rfl
theorem q1009 : (Jvm.Cond.methodLink "CircuitCells" (114 : Nat) ({ cls := "CircuitCells$State", name := "begins", desc := "(LCircuitCells$Line;)V" } : Jvm.MethodName)) ∈ lw_all := lw_g (lw_at lw_m4 174 rfl) rfl
theorem q1017 : (Jvm.Cond.fieldLink "CircuitCells" (10 : Nat) "CircuitCells" "line" "LCircuitCells$Line;") ∈ lw_all := lw_g (lw_at lw_m4 182 rfl) rfl
theorem q1018 : (Jvm.Cond.fieldLink "CircuitCells" (19 : Nat) "CircuitCells" "book" "LCircuitCells$Book;") ∈ lw_all := lw_g (lw_at lw_m4 183 rfl) rfl
theorem q1019 : (Jvm.Cond.fieldLink "CircuitCells" (23 : Nat) "CircuitCells" "image" "LCircuitCells$Book;") ∈ lw_all := lw_g (lw_at lw_m4 184 rfl) rfl
theorem q1020 : (Jvm.Cond.fieldLink "CircuitCells" (30 : Nat) "CircuitCells" "now" "LCircuitCells$State;") ∈ lw_all := lw_g (lw_at lw_m4 185 rfl) rfl
theorem q1021 : (Jvm.Cond.fieldLink "CircuitCells" (34 : Nat) "CircuitCells" "tried" "LCircuitCells$State;") ∈ lw_all := lw_g (lw_at lw_m4 186 rfl) rfl
theorem q1022 : (Jvm.Cond.fieldLink "CircuitCells" (42 : Nat) "CircuitCells" "fills" "Ljava/util/ArrayList;") ∈ lw_all := lw_g (lw_at lw_m4 187 rfl) rfl
theorem q1023 : (Jvm.Cond.fieldLink "CircuitCells" (46 : Nat) "CircuitCells" "looks" "Ljava/util/ArrayList;") ∈ lw_all := lw_g (lw_at lw_m4 188 rfl) rfl
theorem q1024 : (Jvm.Cond.fieldLink "CircuitCells" (167 : Nat) "CircuitCells" "hasImage" "Z") ∈ lw_all := lw_g (lw_at lw_m4 189 rfl) rfl
theorem q1025 : (Jvm.Cond.fieldLink "CircuitCells" (49 : Nat) "CircuitCells" "tape" "[B") ∈ lw_all := lw_g (lw_at lw_m4 190 rfl) rfl
theorem q1026 : (Jvm.Cond.fieldLink "CircuitCells" (131 : Nat) "CircuitCells" "taped" "I") ∈ lw_all := lw_g (lw_at lw_m4 191 rfl) rfl
theorem q1027 : (Jvm.Cond.fieldLink "CircuitCells" (53 : Nat) "CircuitCells" "faultPlace" "I") ∈ lw_all := lw_g (lw_at lw_m4 192 rfl) rfl
theorem q1028 : (Jvm.Cond.fieldLink "CircuitCells" (60 : Nat) "CircuitCells" "highs" "Ljava/util/ArrayDeque;") ∈ lw_all := lw_g (lw_at lw_m4 193 rfl) rfl
theorem q1029 : (Jvm.Cond.fieldLink "CircuitCells" (64 : Nat) "CircuitCells" "lows" "Ljava/util/ArrayDeque;") ∈ lw_all := lw_g (lw_at lw_m4 194 rfl) rfl
theorem q1030 : (Jvm.Cond.fieldLink "CircuitCells" (70 : Nat) "CircuitCells" "course" "LCircuitCells$Course;") ∈ lw_all := lw_g (lw_at lw_m4 195 rfl) rfl
theorem q1031 : (Jvm.Cond.fieldLink "CircuitCells" (74 : Nat) "CircuitCells" "tens" "[I") ∈ lw_all := lw_g (lw_at lw_m4 196 rfl) rfl
theorem q1032 : (Jvm.Cond.fieldLink "CircuitCells" (78 : Nat) "CircuitCells" "levels" "[I") ∈ lw_all := lw_g (lw_at lw_m4 197 rfl) rfl
theorem q1033 : (Jvm.Cond.fieldLink "CircuitCells" (483 : Nat) "CircuitCells" "its" "I") ∈ lw_all := lw_g (lw_at lw_m4 198 rfl) rfl
theorem q1034 : (Jvm.Cond.lays "CircuitCells" "CircuitCells" "line" "LCircuitCells$Line;") ∈ lw_all := lw_g (lw_at lw_m4 199 rfl) rfl
theorem q1035 : (Jvm.Cond.soleField "CircuitCells" "line") ∈ lw_all := lw_g (lw_at lw_m4 200 rfl) rfl
theorem q1036 : (Jvm.Cond.laysFinal "CircuitCells" "CircuitCells" "book" "LCircuitCells$Book;") ∈ lw_all := lw_g (lw_at lw_m4 201 rfl) rfl
theorem q1037 : (Jvm.Cond.soleField "CircuitCells" "book") ∈ lw_all := lw_g (lw_at lw_m4 202 rfl) rfl
theorem q1038 : (Jvm.Cond.laysFinal "CircuitCells" "CircuitCells" "image" "LCircuitCells$Book;") ∈ lw_all := lw_g (lw_at lw_m4 203 rfl) rfl
theorem q1039 : (Jvm.Cond.soleField "CircuitCells" "image") ∈ lw_all := lw_g (lw_at lw_m4 204 rfl) rfl
theorem q1040 : (Jvm.Cond.laysFinal "CircuitCells" "CircuitCells" "now" "LCircuitCells$State;") ∈ lw_all := lw_g (lw_at lw_m4 205 rfl) rfl
theorem q1041 : (Jvm.Cond.soleField "CircuitCells" "now") ∈ lw_all := lw_g (lw_at lw_m4 206 rfl) rfl
theorem q1042 : (Jvm.Cond.laysFinal "CircuitCells" "CircuitCells" "tried" "LCircuitCells$State;") ∈ lw_all := lw_g (lw_at lw_m4 207 rfl) rfl
theorem q1043 : (Jvm.Cond.soleField "CircuitCells" "tried") ∈ lw_all := lw_g (lw_at lw_m4 208 rfl) rfl
theorem q1044 : (Jvm.Cond.laysFinal "CircuitCells" "CircuitCells" "fills" "Ljava/util/ArrayList;") ∈ lw_all := lw_g (lw_at lw_m4 209 rfl) rfl
theorem q1045 : (Jvm.Cond.soleField "CircuitCells" "fills") ∈ lw_all := lw_g (lw_at lw_m4 210 rfl) rfl
theorem q1046 : (Jvm.Cond.laysFinal "CircuitCells" "CircuitCells" "looks" "Ljava/util/ArrayList;") ∈ lw_all := lw_g (lw_at lw_m4 211 rfl) rfl
theorem q1047 : (Jvm.Cond.soleField "CircuitCells" "looks") ∈ lw_all := lw_g (lw_at lw_m4 212 rfl) rfl
theorem q1048 : (Jvm.Cond.lays "CircuitCells" "CircuitCells" "hasImage" "Z") ∈ lw_all := lw_g (lw_at lw_m4 213 rfl) rfl
theorem q1049 : (Jvm.Cond.soleField "CircuitCells" "hasImage") ∈ lw_all := lw_g (lw_at lw_m4 214 rfl) rfl
theorem q1050 : (Jvm.Cond.laysFinal "CircuitCells" "CircuitCells" "tape" "[B") ∈ lw_all := lw_g (lw_at lw_m4 215 rfl) rfl
theorem q1051 : (Jvm.Cond.soleField "CircuitCells" "tape") ∈ lw_all := lw_g (lw_at lw_m4 216 rfl) rfl
theorem q1052 : (Jvm.Cond.lays "CircuitCells" "CircuitCells" "taped" "I") ∈ lw_all := lw_g (lw_at lw_m4 217 rfl) rfl
theorem q1053 : (Jvm.Cond.soleField "CircuitCells" "taped") ∈ lw_all := lw_g (lw_at lw_m4 218 rfl) rfl
theorem q1054 : (Jvm.Cond.lays "CircuitCells" "CircuitCells" "faultPlace" "I") ∈ lw_all := lw_g (lw_at lw_m4 219 rfl) rfl
theorem q1055 : (Jvm.Cond.soleField "CircuitCells" "faultPlace") ∈ lw_all := lw_g (lw_at lw_m4 220 rfl) rfl
theorem q1056 : (Jvm.Cond.laysFinal "CircuitCells" "CircuitCells" "highs" "Ljava/util/ArrayDeque;") ∈ lw_all := lw_g (lw_at lw_m4 221 rfl) rfl
theorem q1057 : (Jvm.Cond.soleField "CircuitCells" "highs") ∈ lw_all := lw_g (lw_at lw_m4 222 rfl) rfl
theorem q1058 : (Jvm.Cond.laysFinal "CircuitCells" "CircuitCells" "lows" "Ljava/util/ArrayDeque;") ∈ lw_all := lw_g (lw_at lw_m4 223 rfl) rfl
theorem q1059 : (Jvm.Cond.soleField "CircuitCells" "lows") ∈ lw_all := lw_g (lw_at lw_m4 224 rfl) rfl
theorem q1060 : (Jvm.Cond.laysFinal "CircuitCells" "CircuitCells" "course" "LCircuitCells$Course;") ∈ lw_all := lw_g (lw_at lw_m4 225 rfl) rfl
theorem q1061 : (Jvm.Cond.soleField "CircuitCells" "course") ∈ lw_all := lw_g (lw_at lw_m4 226 rfl) rfl
theorem q1062 : (Jvm.Cond.laysFinal "CircuitCells" "CircuitCells" "tens" "[I") ∈ lw_all := lw_g (lw_at lw_m4 227 rfl) rfl
theorem q1063 : (Jvm.Cond.soleField "CircuitCells" "tens") ∈ lw_all := lw_g (lw_at lw_m4 228 rfl) rfl
theorem q1064 : (Jvm.Cond.laysFinal "CircuitCells" "CircuitCells" "levels" "[I") ∈ lw_all := lw_g (lw_at lw_m4 229 rfl) rfl
theorem q1065 : (Jvm.Cond.soleField "CircuitCells" "levels") ∈ lw_all := lw_g (lw_at lw_m4 230 rfl) rfl
theorem q1066 : (Jvm.Cond.lays "CircuitCells" "CircuitCells" "its" "I") ∈ lw_all := lw_g (lw_at lw_m4 231 rfl) rfl
theorem q1067 : (Jvm.Cond.soleField "CircuitCells" "its") ∈ lw_all := lw_g (lw_at lw_m4 232 rfl) rfl
theorem q1068 : (Jvm.Cond.superclass "CircuitCells" "java/lang/Object") ∈ lw_all := lw_g (lw_at lw_m4 233 rfl) rfl
theorem q1070 : (Jvm.Cond.instanceMethod ({ cls := "CircuitCells", name := "feed", desc := "(IIIII)I" } : Jvm.MethodName)) ∈ lw_all := lw_g (lw_at lw_m4 235 rfl) rfl
theorem q1071 : (Jvm.Cond.selects "CircuitCells" ({ cls := "CircuitCells", name := "feed", desc := "(IIIII)I" } : Jvm.MethodName) ({ cls := "CircuitCells", name := "feed", desc := "(IIIII)I" } : Jvm.MethodName)) ∈ lw_all := lw_g (lw_at lw_m4 236 rfl) rfl
theorem q1072 : (Jvm.Cond.code ({ cls := "CircuitCells", name := "feed", desc := "(IIIII)I" } : Jvm.MethodName) prog_1_method_7_code (6 : Nat) (Option.some Jvm.ClassFile.FieldType.int)) ∈ lw_all := lw_g (lw_at lw_m4 237 rfl) rfl
theorem q1073 : (Jvm.Cond.methodLink "CircuitCells" (134 : Nat) ({ cls := "CircuitCells", name := "lay", desc := "(I)V" } : Jvm.MethodName)) ∈ lw_all := lw_g (lw_at lw_m4 238 rfl) rfl
theorem q1074 : (Jvm.Cond.privateMethod ({ cls := "CircuitCells", name := "lay", desc := "(I)V" } : Jvm.MethodName)) ∈ lw_tbl := lw_at lw_m4 239 rfl
theorem q1075 : (Jvm.Cond.instanceMethod ({ cls := "CircuitCells", name := "lay", desc := "(I)V" } : Jvm.MethodName)) ∈ lw_all := lw_g (lw_at lw_m5 0 rfl) rfl
theorem q1076 : (Jvm.Cond.code ({ cls := "CircuitCells", name := "lay", desc := "(I)V" } : Jvm.MethodName) prog_1_method_8_code (3 : Nat) (Option.none : Option Jvm.ClassFile.FieldType)) ∈ lw_all := lw_g (lw_at lw_m5 1 rfl) rfl
theorem q1078 : (Jvm.Cond.instanceMethod ({ cls := "CircuitCells", name := "fault", desc := "()I" } : Jvm.MethodName)) ∈ lw_all := lw_g (lw_at lw_m5 3 rfl) rfl
theorem q1079 : (Jvm.Cond.selects "CircuitCells" ({ cls := "CircuitCells", name := "fault", desc := "()I" } : Jvm.MethodName) ({ cls := "CircuitCells", name := "fault", desc := "()I" } : Jvm.MethodName)) ∈ lw_all := lw_g (lw_at lw_m5 4 rfl) rfl
theorem q1080 : (Jvm.Cond.code ({ cls := "CircuitCells", name := "fault", desc := "()I" } : Jvm.MethodName) prog_1_method_10_code (1 : Nat) (Option.some Jvm.ClassFile.FieldType.int)) ∈ lw_all := lw_g (lw_at lw_m5 5 rfl) rfl
theorem q1082 : (Jvm.Cond.instanceMethod ({ cls := "CircuitCells", name := "steps", desc := "(I)I" } : Jvm.MethodName)) ∈ lw_all := lw_g (lw_at lw_m5 7 rfl) rfl
theorem q1083 : (Jvm.Cond.selects "CircuitCells" ({ cls := "CircuitCells", name := "steps", desc := "(I)I" } : Jvm.MethodName) ({ cls := "CircuitCells", name := "steps", desc := "(I)I" } : Jvm.MethodName)) ∈ lw_all := lw_g (lw_at lw_m5 8 rfl) rfl
theorem q1084 : (Jvm.Cond.code ({ cls := "CircuitCells", name := "steps", desc := "(I)I" } : Jvm.MethodName) prog_1_method_23_code (2 : Nat) (Option.some Jvm.ClassFile.FieldType.int)) ∈ lw_all := lw_g (lw_at lw_m5 9 rfl) rfl
theorem q1085 : (Jvm.Cond.methodLink "CircuitCells" (180 : Nat) ({ cls := "CircuitCells", name := "within", desc := "(III)Z" } : Jvm.MethodName)) ∈ lw_all := lw_g (lw_at lw_m5 10 rfl) rfl
theorem q1086 : (Jvm.Cond.static ({ cls := "CircuitCells", name := "within", desc := "(III)Z" } : Jvm.MethodName)) ∈ lw_all := lw_g (lw_at lw_m5 11 rfl) rfl
theorem q1087 : (Jvm.Cond.code ({ cls := "CircuitCells", name := "within", desc := "(III)Z" } : Jvm.MethodName) prog_1_method_6_code (3 : Nat) (Option.some Jvm.ClassFile.FieldType.boolean)) ∈ lw_all := lw_g (lw_at lw_m5 12 rfl) rfl
theorem q1088 : (Jvm.Cond.methodLink "CircuitCells" (393 : Nat) ({ cls := "CircuitCells", name := "does", desc := "(Z)Z" } : Jvm.MethodName)) ∈ lw_all := lw_g (lw_at lw_m5 13 rfl) rfl
theorem q1089 : (Jvm.Cond.privateMethod ({ cls := "CircuitCells", name := "does", desc := "(Z)Z" } : Jvm.MethodName)) ∈ lw_tbl := lw_at lw_m5 14 rfl
theorem q1090 : (Jvm.Cond.instanceMethod ({ cls := "CircuitCells", name := "does", desc := "(Z)Z" } : Jvm.MethodName)) ∈ lw_all := lw_g (lw_at lw_m5 15 rfl) rfl
theorem q1091 : (Jvm.Cond.code ({ cls := "CircuitCells", name := "does", desc := "(Z)Z" } : Jvm.MethodName) prog_1_method_21_code (2 : Nat) (Option.some Jvm.ClassFile.FieldType.boolean)) ∈ lw_all := lw_g (lw_at lw_m5 16 rfl) rfl
theorem q1092 : (Jvm.Cond.methodLink "CircuitCells" (379 : Nat) ({ cls := "CircuitCells$Book", name := "keeps", desc := "()V" } : Jvm.MethodName)) ∈ lw_all := lw_g (lw_at lw_m5 17 rfl) rfl
theorem q1156 : (Jvm.Cond.methodLink "CircuitCells" (382 : Nat) ({ cls := "CircuitCells", name := "refuses", desc := "(I)I" } : Jvm.MethodName)) ∈ lw_all := lw_g (lw_at lw_m5 81 rfl) rfl
theorem q1157 : (Jvm.Cond.privateMethod ({ cls := "CircuitCells", name := "refuses", desc := "(I)I" } : Jvm.MethodName)) ∈ lw_tbl := lw_at lw_m5 82 rfl
theorem q1158 : (Jvm.Cond.instanceMethod ({ cls := "CircuitCells", name := "refuses", desc := "(I)I" } : Jvm.MethodName)) ∈ lw_all := lw_g (lw_at lw_m5 83 rfl) rfl
theorem q1159 : (Jvm.Cond.code ({ cls := "CircuitCells", name := "refuses", desc := "(I)I" } : Jvm.MethodName) prog_1_method_20_code (2 : Nat) (Option.some Jvm.ClassFile.FieldType.int)) ∈ lw_all := lw_g (lw_at lw_m5 84 rfl) rfl
theorem q1160 : (Jvm.Cond.methodLink "CircuitCells" (397 : Nat) ({ cls := "CircuitCells", name := "goes", desc := "(LCircuitCells$State;I)V" } : Jvm.MethodName)) ∈ lw_all := lw_g (lw_at lw_m5 85 rfl) rfl
theorem q1161 : (Jvm.Cond.privateMethod ({ cls := "CircuitCells", name := "goes", desc := "(LCircuitCells$State;I)V" } : Jvm.MethodName)) ∈ lw_tbl := lw_at lw_m5 86 rfl
theorem q1162 : (Jvm.Cond.instanceMethod ({ cls := "CircuitCells", name := "goes", desc := "(LCircuitCells$State;I)V" } : Jvm.MethodName)) ∈ lw_all := lw_g (lw_at lw_m5 87 rfl) rfl
theorem q1163 : (Jvm.Cond.code ({ cls := "CircuitCells", name := "goes", desc := "(LCircuitCells$State;I)V" } : Jvm.MethodName) prog_1_method_22_code (4 : Nat) (Option.none : Option Jvm.ClassFile.FieldType)) ∈ lw_all := lw_g (lw_at lw_m5 88 rfl) rfl
theorem q1164 : (Jvm.Cond.methodLink "CircuitCells" (385 : Nat) ({ cls := "java/util/ArrayList", name := "get", desc := "(I)Ljava/lang/Object;" } : Jvm.MethodName)) ∈ lw_all := lw_g (lw_at lw_m5 89 rfl) rfl
theorem q1165 : (Jvm.Cond.methodLink "CircuitCells" (389 : Nat) ({ cls := "CircuitCells$State", name := "goes", desc := "(LCircuitCells$Line;LCircuitCells$Fill;)V" } : Jvm.MethodName)) ∈ lw_all := lw_g (lw_at lw_m5 90 rfl) rfl
theorem q1303 : (Jvm.Cond.instanceMethod ({ cls := "CircuitCells", name := "lose", desc := "(I)I" } : Jvm.MethodName)) ∈ lw_all := lw_g (lw_at lw_m5 228 rfl) rfl
theorem q1304 : (Jvm.Cond.selects "CircuitCells" ({ cls := "CircuitCells", name := "lose", desc := "(I)I" } : Jvm.MethodName) ({ cls := "CircuitCells", name := "lose", desc := "(I)I" } : Jvm.MethodName)) ∈ lw_all := lw_g (lw_at lw_m5 229 rfl) rfl
theorem q1305 : (Jvm.Cond.code ({ cls := "CircuitCells", name := "lose", desc := "(I)I" } : Jvm.MethodName) prog_1_method_24_code (3 : Nat) (Option.some Jvm.ClassFile.FieldType.int)) ∈ lw_all := lw_g (lw_at lw_m5 230 rfl) rfl
theorem q1307 : (Jvm.Cond.instanceMethod ({ cls := "CircuitCells", name := "stall", desc := "(I)I" } : Jvm.MethodName)) ∈ lw_all := lw_g (lw_at lw_m5 232 rfl) rfl
theorem q1308 : (Jvm.Cond.selects "CircuitCells" ({ cls := "CircuitCells", name := "stall", desc := "(I)I" } : Jvm.MethodName) ({ cls := "CircuitCells", name := "stall", desc := "(I)I" } : Jvm.MethodName)) ∈ lw_all := lw_g (lw_at lw_m5 233 rfl) rfl
theorem q1309 : (Jvm.Cond.code ({ cls := "CircuitCells", name := "stall", desc := "(I)I" } : Jvm.MethodName) prog_1_method_25_code (3 : Nat) (Option.some Jvm.ClassFile.FieldType.int)) ∈ lw_all := lw_g (lw_at lw_m5 234 rfl) rfl
theorem q1311 : (Jvm.Cond.instanceMethod ({ cls := "CircuitCells", name := "undo", desc := "()I" } : Jvm.MethodName)) ∈ lw_all := lw_g (lw_at lw_m5 236 rfl) rfl
theorem q1312 : (Jvm.Cond.selects "CircuitCells" ({ cls := "CircuitCells", name := "undo", desc := "()I" } : Jvm.MethodName) ({ cls := "CircuitCells", name := "undo", desc := "()I" } : Jvm.MethodName)) ∈ lw_all := lw_g (lw_at lw_m5 237 rfl) rfl
theorem q1313 : (Jvm.Cond.code ({ cls := "CircuitCells", name := "undo", desc := "()I" } : Jvm.MethodName) prog_1_method_27_code (1 : Nat) (Option.some Jvm.ClassFile.FieldType.int)) ∈ lw_all := lw_g (lw_at lw_m5 238 rfl) rfl
theorem q1314 : (Jvm.Cond.methodLink "CircuitCells" (403 : Nat) ({ cls := "CircuitCells$State", name := "like", desc := "(LCircuitCells$State;)V" } : Jvm.MethodName)) ∈ lw_all := lw_g (lw_at lw_m5 239 rfl) rfl
theorem q1316 : (Jvm.Cond.instanceMethod ({ cls := "CircuitCells", name := "settles", desc := "()I" } : Jvm.MethodName)) ∈ lw_all := lw_g (lw_at lw_m6 1 rfl) rfl
theorem q1317 : (Jvm.Cond.selects "CircuitCells" ({ cls := "CircuitCells", name := "settles", desc := "()I" } : Jvm.MethodName) ({ cls := "CircuitCells", name := "settles", desc := "()I" } : Jvm.MethodName)) ∈ lw_all := lw_g (lw_at lw_m6 2 rfl) rfl
theorem q1318 : (Jvm.Cond.code ({ cls := "CircuitCells", name := "settles", desc := "()I" } : Jvm.MethodName) prog_1_method_34_code (3 : Nat) (Option.some Jvm.ClassFile.FieldType.int)) ∈ lw_all := lw_g (lw_at lw_m6 3 rfl) rfl
theorem q1319 : (Jvm.Cond.methodLink "CircuitCells" (411 : Nat) ({ cls := "CircuitCells", name := "tries", desc := "(I)V" } : Jvm.MethodName)) ∈ lw_all := lw_g (lw_at lw_m6 4 rfl) rfl
theorem q1320 : (Jvm.Cond.privateMethod ({ cls := "CircuitCells", name := "tries", desc := "(I)V" } : Jvm.MethodName)) ∈ lw_tbl := lw_at lw_m6 5 rfl
theorem q1321 : (Jvm.Cond.instanceMethod ({ cls := "CircuitCells", name := "tries", desc := "(I)V" } : Jvm.MethodName)) ∈ lw_all := lw_g (lw_at lw_m6 6 rfl) rfl
theorem q1322 : (Jvm.Cond.code ({ cls := "CircuitCells", name := "tries", desc := "(I)V" } : Jvm.MethodName) prog_1_method_28_code (2 : Nat) (Option.none : Option Jvm.ClassFile.FieldType)) ∈ lw_all := lw_g (lw_at lw_m6 7 rfl) rfl
theorem q1323 : (Jvm.Cond.methodLink "CircuitCells" (446 : Nat) ({ cls := "CircuitCells", name := "off", desc := "(LCircuitCells$State;)I" } : Jvm.MethodName)) ∈ lw_all := lw_g (lw_at lw_m6 8 rfl) rfl
theorem q1324 : (Jvm.Cond.privateMethod ({ cls := "CircuitCells", name := "off", desc := "(LCircuitCells$State;)I" } : Jvm.MethodName)) ∈ lw_tbl := lw_at lw_m6 9 rfl
theorem q1325 : (Jvm.Cond.instanceMethod ({ cls := "CircuitCells", name := "off", desc := "(LCircuitCells$State;)I" } : Jvm.MethodName)) ∈ lw_all := lw_g (lw_at lw_m6 10 rfl) rfl
theorem q1326 : (Jvm.Cond.code ({ cls := "CircuitCells", name := "off", desc := "(LCircuitCells$State;)I" } : Jvm.MethodName) prog_1_method_33_code (2 : Nat) (Option.some Jvm.ClassFile.FieldType.int)) ∈ lw_all := lw_g (lw_at lw_m6 11 rfl) rfl
theorem q1327 : (Jvm.Cond.methodLink "CircuitCells" (443 : Nat) ({ cls := "java/lang/Math", name := "abs", desc := "(I)I" } : Jvm.MethodName)) ∈ lw_all := lw_g (lw_at lw_m6 12 rfl) rfl
theorem q1331 : (Jvm.Cond.instanceMethod ({ cls := "CircuitCells", name := "note", desc := "(II)I" } : Jvm.MethodName)) ∈ lw_all := lw_g (lw_at lw_m6 16 rfl) rfl
theorem q1332 : (Jvm.Cond.selects "CircuitCells" ({ cls := "CircuitCells", name := "note", desc := "(II)I" } : Jvm.MethodName) ({ cls := "CircuitCells", name := "note", desc := "(II)I" } : Jvm.MethodName)) ∈ lw_all := lw_g (lw_at lw_m6 17 rfl) rfl
theorem q1333 : (Jvm.Cond.code ({ cls := "CircuitCells", name := "note", desc := "(II)I" } : Jvm.MethodName) prog_1_method_38_code (3 : Nat) (Option.some Jvm.ClassFile.FieldType.int)) ∈ lw_all := lw_g (lw_at lw_m6 18 rfl) rfl
theorem q1335 : (Jvm.Cond.instanceMethod ({ cls := "CircuitCells", name := "forget", desc := "()V" } : Jvm.MethodName)) ∈ lw_all := lw_g (lw_at lw_m6 20 rfl) rfl
theorem q1336 : (Jvm.Cond.selects "CircuitCells" ({ cls := "CircuitCells", name := "forget", desc := "()V" } : Jvm.MethodName) ({ cls := "CircuitCells", name := "forget", desc := "()V" } : Jvm.MethodName)) ∈ lw_all := lw_g (lw_at lw_m6 21 rfl) rfl
theorem q1337 : (Jvm.Cond.code ({ cls := "CircuitCells", name := "forget", desc := "()V" } : Jvm.MethodName) prog_1_method_44_code (1 : Nat) (Option.none : Option Jvm.ClassFile.FieldType)) ∈ lw_all := lw_g (lw_at lw_m6 22 rfl) rfl
theorem q1339 : (Jvm.Cond.instanceMethod ({ cls := "CircuitCells", name := "image", desc := "()V" } : Jvm.MethodName)) ∈ lw_all := lw_g (lw_at lw_m6 24 rfl) rfl
theorem q1340 : (Jvm.Cond.selects "CircuitCells" ({ cls := "CircuitCells", name := "image", desc := "()V" } : Jvm.MethodName) ({ cls := "CircuitCells", name := "image", desc := "()V" } : Jvm.MethodName)) ∈ lw_all := lw_g (lw_at lw_m6 25 rfl) rfl
theorem q1341 : (Jvm.Cond.code ({ cls := "CircuitCells", name := "image", desc := "()V" } : Jvm.MethodName) prog_1_method_49_code (1 : Nat) (Option.none : Option Jvm.ClassFile.FieldType)) ∈ lw_all := lw_g (lw_at lw_m6 26 rfl) rfl
theorem q1342 : (Jvm.Cond.methodLink "CircuitCells" (493 : Nat) ({ cls := "CircuitCells$Book", name := "like", desc := "(LCircuitCells$Book;)V" } : Jvm.MethodName)) ∈ lw_all := lw_g (lw_at lw_m6 27 rfl) rfl
theorem q1348 : (Jvm.Cond.instanceMethod ({ cls := "CircuitCells", name := "restore", desc := "()Z" } : Jvm.MethodName)) ∈ lw_all := lw_g (lw_at lw_m6 33 rfl) rfl
theorem q1349 : (Jvm.Cond.selects "CircuitCells" ({ cls := "CircuitCells", name := "restore", desc := "()Z" } : Jvm.MethodName) ({ cls := "CircuitCells", name := "restore", desc := "()Z" } : Jvm.MethodName)) ∈ lw_all := lw_g (lw_at lw_m6 34 rfl) rfl
theorem q1350 : (Jvm.Cond.code ({ cls := "CircuitCells", name := "restore", desc := "()Z" } : Jvm.MethodName) prog_1_method_50_code (1 : Nat) (Option.some Jvm.ClassFile.FieldType.boolean)) ∈ lw_all := lw_g (lw_at lw_m6 35 rfl) rfl
theorem q1356 : (Jvm.Cond.instanceMethod ({ cls := "CircuitCells", name := "line", desc := "(I)I" } : Jvm.MethodName)) ∈ lw_all := lw_g (lw_at lw_m6 41 rfl) rfl
theorem q1357 : (Jvm.Cond.selects "CircuitCells" ({ cls := "CircuitCells", name := "line", desc := "(I)I" } : Jvm.MethodName) ({ cls := "CircuitCells", name := "line", desc := "(I)I" } : Jvm.MethodName)) ∈ lw_all := lw_g (lw_at lw_m6 42 rfl) rfl
theorem q1358 : (Jvm.Cond.codeWith ({ cls := "CircuitCells", name := "line", desc := "(I)I" } : Jvm.MethodName) prog_1_method_9_code (3 : Nat) (Option.some Jvm.ClassFile.FieldType.int) [((30 : Nat), (49 : Nat), (52 : Nat), (150 : Nat))]) ∈ lw_all := lw_g (lw_at lw_m6 43 rfl) rfl
theorem q1359 : (Jvm.Cond.classLink "CircuitCells" (150 : Nat) "CircuitCells$Fault") ∈ lw_all := lw_g (lw_at lw_m6 44 rfl) rfl
theorem q1360 : (Jvm.Cond.methodLink "CircuitCells" (137 : Nat) ({ cls := "CircuitCells", name := "right", desc := "(Z)V" } : Jvm.MethodName)) ∈ lw_all := lw_g (lw_at lw_m6 45 rfl) rfl
theorem q1361 : (Jvm.Cond.static ({ cls := "CircuitCells", name := "right", desc := "(Z)V" } : Jvm.MethodName)) ∈ lw_all := lw_g (lw_at lw_m6 46 rfl) rfl
theorem q1362 : (Jvm.Cond.code ({ cls := "CircuitCells", name := "right", desc := "(Z)V" } : Jvm.MethodName) prog_1_method_4_code (1 : Nat) (Option.none : Option Jvm.ClassFile.FieldType)) ∈ lw_all := lw_g (lw_at lw_m6 47 rfl) rfl
theorem q1363 : (Jvm.Cond.classLink "CircuitCells" (125 : Nat) "java/lang/IllegalArgumentException") ∈ lw_all := lw_g (lw_at lw_m6 48 rfl) rfl
theorem q1364 : (Jvm.Cond.methodLink "CircuitCells" (127 : Nat) ({ cls := "java/lang/IllegalArgumentException", name := "<init>", desc := "()V" } : Jvm.MethodName)) ∈ lw_all := lw_g (lw_at lw_m6 49 rfl) rfl
theorem q1374 : (Jvm.Cond.classLink "CircuitCells" (141 : Nat) "CircuitCells$Reader") ∈ lw_all := lw_g (lw_at lw_m6 59 rfl) rfl
theorem q1376 : (Jvm.Cond.methodLink "CircuitCells" (143 : Nat) ({ cls := "CircuitCells$Reader", name := "<init>", desc := "([BI)V" } : Jvm.MethodName)) ∈ lw_all := lw_g (lw_at lw_m6 61 rfl) rfl
theorem q1480 : (Jvm.Cond.methodLink "CircuitCells" (146 : Nat) ({ cls := "CircuitCells$Reader", name := "whole", desc := "()LCircuitCells$Line;" } : Jvm.MethodName)) ∈ lw_all := lw_g (lw_at lw_m6 165 rfl) rfl
theorem q1508 : (Jvm.Cond.fieldLinkNest "CircuitCells" (158 : Nat) "CircuitCells$Fault" "kind" "I" "CircuitCells") ∈ lw_tbl := lw_at lw_m6 193 rfl
theorem q1510 : (Jvm.Cond.fieldLinkNest "CircuitCells" (152 : Nat) "CircuitCells$Fault" "place" "I" "CircuitCells") ∈ lw_tbl := lw_at lw_m6 195 rfl
theorem q1750 : (Jvm.Cond.instanceMethod ({ cls := "CircuitCells", name := "count", desc := "(I)I" } : Jvm.MethodName)) ∈ lw_all := lw_g (lw_at lw_m7 195 rfl) rfl
theorem q1751 : (Jvm.Cond.selects "CircuitCells" ({ cls := "CircuitCells", name := "count", desc := "(I)I" } : Jvm.MethodName) ({ cls := "CircuitCells", name := "count", desc := "(I)I" } : Jvm.MethodName)) ∈ lw_all := lw_g (lw_at lw_m7 196 rfl) rfl
theorem q1752 : (Jvm.Cond.code ({ cls := "CircuitCells", name := "count", desc := "(I)I" } : Jvm.MethodName) prog_1_method_12_code (2 : Nat) (Option.some Jvm.ClassFile.FieldType.int)) ∈ lw_all := lw_g (lw_at lw_m7 197 rfl) rfl
theorem q1753 : (Jvm.Cond.methodLink "CircuitCells" (184 : Nat) ({ cls := "CircuitCells", name := "there", desc := "(Z)V" } : Jvm.MethodName)) ∈ lw_all := lw_g (lw_at lw_m7 198 rfl) rfl
theorem q1754 : (Jvm.Cond.static ({ cls := "CircuitCells", name := "there", desc := "(Z)V" } : Jvm.MethodName)) ∈ lw_all := lw_g (lw_at lw_m7 199 rfl) rfl
theorem q1755 : (Jvm.Cond.code ({ cls := "CircuitCells", name := "there", desc := "(Z)V" } : Jvm.MethodName) prog_1_method_5_code (1 : Nat) (Option.none : Option Jvm.ClassFile.FieldType)) ∈ lw_all := lw_g (lw_at lw_m7 200 rfl) rfl
theorem q1756 : (Jvm.Cond.classLink "CircuitCells" (128 : Nat) "java/util/NoSuchElementException") ∈ lw_all := lw_g (lw_at lw_m7 201 rfl) rfl
theorem q1765 : (Jvm.Cond.methodLink "CircuitCells" (130 : Nat) ({ cls := "java/util/NoSuchElementException", name := "<init>", desc := "()V" } : Jvm.MethodName)) ∈ lw_all := lw_g (lw_at lw_m7 210 rfl) rfl
theorem q1771 : (Jvm.Cond.methodLink "CircuitCells" (227 : Nat) ({ cls := "CircuitCells", name := "regained", desc := "(LCircuitCells$State;I)I" } : Jvm.MethodName)) ∈ lw_all := lw_g (lw_at lw_m7 216 rfl) rfl
theorem q1772 : (Jvm.Cond.static ({ cls := "CircuitCells", name := "regained", desc := "(LCircuitCells$State;I)I" } : Jvm.MethodName)) ∈ lw_all := lw_g (lw_at lw_m7 217 rfl) rfl
theorem q1773 : (Jvm.Cond.code ({ cls := "CircuitCells", name := "regained", desc := "(LCircuitCells$State;I)I" } : Jvm.MethodName) prog_1_method_11_code (2 : Nat) (Option.some Jvm.ClassFile.FieldType.int)) ∈ lw_all := lw_g (lw_at lw_m7 218 rfl) rfl
theorem q1774 : (Jvm.Cond.methodLink "CircuitCells" (240 : Nat) ({ cls := "CircuitCells$State", name := "kept", desc := "(I)I" } : Jvm.MethodName)) ∈ lw_all := lw_g (lw_at lw_m7 219 rfl) rfl
theorem q1782 : (Jvm.Cond.instanceMethod ({ cls := "CircuitCells", name := "set", desc := "(I)I" } : Jvm.MethodName)) ∈ lw_all := lw_g (lw_at lw_m7 227 rfl) rfl
theorem q1783 : (Jvm.Cond.selects "CircuitCells" ({ cls := "CircuitCells", name := "set", desc := "(I)I" } : Jvm.MethodName) ({ cls := "CircuitCells", name := "set", desc := "(I)I" } : Jvm.MethodName)) ∈ lw_all := lw_g (lw_at lw_m7 228 rfl) rfl
theorem q1784 : (Jvm.Cond.code ({ cls := "CircuitCells", name := "set", desc := "(I)I" } : Jvm.MethodName) prog_1_method_13_code (2 : Nat) (Option.some Jvm.ClassFile.FieldType.int)) ∈ lw_all := lw_g (lw_at lw_m7 229 rfl) rfl
theorem q1785 : (Jvm.Cond.methodLink "CircuitCells" (261 : Nat) ({ cls := "java/util/ArrayList", name := "size", desc := "()I" } : Jvm.MethodName)) ∈ lw_all := lw_g (lw_at lw_m7 230 rfl) rfl
theorem q1786 : (Jvm.Cond.methodLink "CircuitCells" (264 : Nat) ({ cls := "java/lang/Math", name := "max", desc := "(II)I" } : Jvm.MethodName)) ∈ lw_all := lw_g (lw_at lw_m7 231 rfl) rfl
theorem q1791 : (Jvm.Cond.instanceMethod ({ cls := "CircuitCells", name := "flying", desc := "(II)I" } : Jvm.MethodName)) ∈ lw_all := lw_g (lw_at lw_m7 236 rfl) rfl
theorem q1792 : (Jvm.Cond.selects "CircuitCells" ({ cls := "CircuitCells", name := "flying", desc := "(II)I" } : Jvm.MethodName) ({ cls := "CircuitCells", name := "flying", desc := "(II)I" } : Jvm.MethodName)) ∈ lw_all := lw_g (lw_at lw_m7 237 rfl) rfl
theorem q1793 : (Jvm.Cond.code ({ cls := "CircuitCells", name := "flying", desc := "(II)I" } : Jvm.MethodName) prog_1_method_14_code (3 : Nat) (Option.some Jvm.ClassFile.FieldType.int)) ∈ lw_all := lw_g (lw_at lw_m7 238 rfl) rfl
theorem q1798 : (Jvm.Cond.instanceMethod ({ cls := "CircuitCells", name := "slot", desc := "(I)I" } : Jvm.MethodName)) ∈ lw_all := lw_g (lw_at lw_m8 3 rfl) rfl
theorem q1799 : (Jvm.Cond.selects "CircuitCells" ({ cls := "CircuitCells", name := "slot", desc := "(I)I" } : Jvm.MethodName) ({ cls := "CircuitCells", name := "slot", desc := "(I)I" } : Jvm.MethodName)) ∈ lw_all := lw_g (lw_at lw_m8 4 rfl) rfl
theorem q1800 : (Jvm.Cond.code ({ cls := "CircuitCells", name := "slot", desc := "(I)I" } : Jvm.MethodName) prog_1_method_15_code (2 : Nat) (Option.some Jvm.ClassFile.FieldType.int)) ∈ lw_all := lw_g (lw_at lw_m8 5 rfl) rfl
theorem q1805 : (Jvm.Cond.instanceMethod ({ cls := "CircuitCells", name := "played", desc := "(II)I" } : Jvm.MethodName)) ∈ lw_all := lw_g (lw_at lw_m8 10 rfl) rfl
theorem q1806 : (Jvm.Cond.selects "CircuitCells" ({ cls := "CircuitCells", name := "played", desc := "(II)I" } : Jvm.MethodName) ({ cls := "CircuitCells", name := "played", desc := "(II)I" } : Jvm.MethodName)) ∈ lw_all := lw_g (lw_at lw_m8 11 rfl) rfl
theorem q1807 : (Jvm.Cond.code ({ cls := "CircuitCells", name := "played", desc := "(II)I" } : Jvm.MethodName) prog_1_method_16_code (3 : Nat) (Option.some Jvm.ClassFile.FieldType.int)) ∈ lw_all := lw_g (lw_at lw_m8 12 rfl) rfl
theorem q1808 : (Jvm.Cond.methodLink "CircuitCells" (304 : Nat) ({ cls := "CircuitCells$State", name := "lacks", desc := "()Ljava/util/BitSet;" } : Jvm.MethodName)) ∈ lw_all := lw_g (lw_at lw_m8 13 rfl) rfl
theorem q1815 : (Jvm.Cond.methodLink "CircuitCells" (308 : Nat) ({ cls := "java/util/BitSet", name := "get", desc := "(I)Z" } : Jvm.MethodName)) ∈ lw_all := lw_g (lw_at lw_m8 20 rfl) rfl
theorem q1820 : (Jvm.Cond.instanceMethod ({ cls := "CircuitCells", name := "spans", desc := "(II)I" } : Jvm.MethodName)) ∈ lw_all := lw_g (lw_at lw_m8 25 rfl) rfl
theorem q1821 : (Jvm.Cond.selects "CircuitCells" ({ cls := "CircuitCells", name := "spans", desc := "(II)I" } : Jvm.MethodName) ({ cls := "CircuitCells", name := "spans", desc := "(II)I" } : Jvm.MethodName)) ∈ lw_all := lw_g (lw_at lw_m8 26 rfl) rfl
theorem q1822 : (Jvm.Cond.code ({ cls := "CircuitCells", name := "spans", desc := "(II)I" } : Jvm.MethodName) prog_1_method_17_code (6 : Nat) (Option.some Jvm.ClassFile.FieldType.int)) ∈ lw_all := lw_g (lw_at lw_m8 27 rfl) rfl
theorem q1823 : (Jvm.Cond.classLink "CircuitCells" (314 : Nat) "java/util/LinkedList") ∈ lw_all := lw_g (lw_at lw_m8 28 rfl) rfl
theorem q1825 : (Jvm.Cond.methodLink "CircuitCells" (316 : Nat) ({ cls := "java/util/LinkedList", name := "<init>", desc := "()V" } : Jvm.MethodName)) ∈ lw_all := lw_g (lw_at lw_m8 30 rfl) rfl
theorem q1844 : (Jvm.Cond.methodLink "CircuitCells" (317 : Nat) ({ cls := "java/util/BitSet", name := "nextSetBit", desc := "(I)I" } : Jvm.MethodName)) ∈ lw_all := lw_g (lw_at lw_m8 49 rfl) rfl
theorem q1855 : (Jvm.Cond.methodLink "CircuitCells" (320 : Nat) ({ cls := "java/util/BitSet", name := "nextClearBit", desc := "(I)I" } : Jvm.MethodName)) ∈ lw_all := lw_g (lw_at lw_m8 60 rfl) rfl
theorem q1859 : (Jvm.Cond.methodLink "CircuitCells" (323 : Nat) ({ cls := "java/lang/Integer", name := "valueOf", desc := "(I)Ljava/lang/Integer;" } : Jvm.MethodName)) ∈ lw_all := lw_g (lw_at lw_m8 64 rfl) rfl
theorem q1860 : (Jvm.Cond.methodLink "CircuitCells" (329 : Nat) ({ cls := "java/util/LinkedList", name := "addLast", desc := "(Ljava/lang/Object;)V" } : Jvm.MethodName)) ∈ lw_all := lw_g (lw_at lw_m8 65 rfl) rfl
theorem q1889 : (Jvm.Cond.methodLink "CircuitCells" (333 : Nat) ({ cls := "java/util/LinkedList", name := "iterator", desc := "()Ljava/util/Iterator;" } : Jvm.MethodName)) ∈ lw_all := lw_g (lw_at lw_m8 94 rfl) rfl
theorem q1976 : (Jvm.Cond.interfaceEntry "CircuitCells" (337 : Nat)) ∈ lw_tbl := lw_at lw_m8 181 rfl
theorem q1977 : (Jvm.Cond.methodLink "CircuitCells" (337 : Nat) ({ cls := "java/util/Iterator", name := "hasNext", desc := "()Z" } : Jvm.MethodName)) ∈ lw_all := lw_g (lw_at lw_m8 182 rfl) rfl
theorem q2005 : (Jvm.Cond.interfaceEntry "CircuitCells" (343 : Nat)) ∈ lw_tbl := lw_at lw_m8 210 rfl
theorem q2006 : (Jvm.Cond.methodLink "CircuitCells" (343 : Nat) ({ cls := "java/util/Iterator", name := "next", desc := "()Ljava/lang/Object;" } : Jvm.MethodName)) ∈ lw_all := lw_g (lw_at lw_m8 211 rfl) rfl
theorem q2105 : (Jvm.Cond.classLink "CircuitCells" (324 : Nat) "java/lang/Integer") ∈ lw_all := lw_g (lw_at lw_m9 70 rfl) rfl
theorem q2106 : (Jvm.Cond.methodLink "CircuitCells" (347 : Nat) ({ cls := "java/lang/Integer", name := "intValue", desc := "()I" } : Jvm.MethodName)) ∈ lw_all := lw_g (lw_at lw_m9 71 rfl) rfl
theorem q2107 : (Jvm.Cond.interfaceEntry "CircuitCells" (350 : Nat)) ∈ lw_tbl := lw_at lw_m9 72 rfl
theorem q2108 : (Jvm.Cond.methodLink "CircuitCells" (350 : Nat) ({ cls := "java/util/Iterator", name := "remove", desc := "()V" } : Jvm.MethodName)) ∈ lw_all := lw_g (lw_at lw_m9 73 rfl) rfl
theorem q2172 : (Jvm.Cond.methodLink "CircuitCells" (353 : Nat) ({ cls := "java/util/LinkedList", name := "size", desc := "()I" } : Jvm.MethodName)) ∈ lw_all := lw_g (lw_at lw_m9 137 rfl) rfl
theorem q2173 : (Jvm.Cond.methodLink "CircuitCells" (354 : Nat) ({ cls := "java/util/LinkedList", name := "get", desc := "(I)Ljava/lang/Object;" } : Jvm.MethodName)) ∈ lw_all := lw_g (lw_at lw_m9 138 rfl) rfl
theorem q2178 : (Jvm.Cond.instanceMethod ({ cls := "CircuitCells", name := "sample", desc := "(I)I" } : Jvm.MethodName)) ∈ lw_all := lw_g (lw_at lw_m9 143 rfl) rfl
theorem q2179 : (Jvm.Cond.selects "CircuitCells" ({ cls := "CircuitCells", name := "sample", desc := "(I)I" } : Jvm.MethodName) ({ cls := "CircuitCells", name := "sample", desc := "(I)I" } : Jvm.MethodName)) ∈ lw_all := lw_g (lw_at lw_m9 144 rfl) rfl
theorem q2180 : (Jvm.Cond.code ({ cls := "CircuitCells", name := "sample", desc := "(I)I" } : Jvm.MethodName) prog_1_method_18_code (2 : Nat) (Option.some Jvm.ClassFile.FieldType.int)) ∈ lw_all := lw_g (lw_at lw_m9 145 rfl) rfl
theorem q2181 : (Jvm.Cond.methodLink "CircuitCells" (357 : Nat) ({ cls := "CircuitCells$State", name := "sampleAt", desc := "(I)I" } : Jvm.MethodName)) ∈ lw_all := lw_g (lw_at lw_m9 146 rfl) rfl
theorem q2189 : (Jvm.Cond.instanceMethod ({ cls := "CircuitCells", name := "wander", desc := "(I)I" } : Jvm.MethodName)) ∈ lw_all := lw_g (lw_at lw_m9 154 rfl) rfl
theorem q2190 : (Jvm.Cond.selects "CircuitCells" ({ cls := "CircuitCells", name := "wander", desc := "(I)I" } : Jvm.MethodName) ({ cls := "CircuitCells", name := "wander", desc := "(I)I" } : Jvm.MethodName)) ∈ lw_all := lw_g (lw_at lw_m9 155 rfl) rfl
theorem q2191 : (Jvm.Cond.code ({ cls := "CircuitCells", name := "wander", desc := "(I)I" } : Jvm.MethodName) prog_1_method_19_code (6 : Nat) (Option.some Jvm.ClassFile.FieldType.int)) ∈ lw_all := lw_g (lw_at lw_m9 156 rfl) rfl
theorem q2192 : (Jvm.Cond.methodLink "CircuitCells" (360 : Nat) ({ cls := "java/util/ArrayDeque", name := "clear", desc := "()V" } : Jvm.MethodName)) ∈ lw_all := lw_g (lw_at lw_m9 157 rfl) rfl
theorem q2199 : (Jvm.Cond.methodLink "CircuitCells" (363 : Nat) ({ cls := "java/util/ArrayDeque", name := "isEmpty", desc := "()Z" } : Jvm.MethodName)) ∈ lw_all := lw_g (lw_at lw_m9 164 rfl) rfl
theorem q2203 : (Jvm.Cond.methodLink "CircuitCells" (366 : Nat) ({ cls := "java/util/ArrayDeque", name := "peekLast", desc := "()Ljava/lang/Object;" } : Jvm.MethodName)) ∈ lw_all := lw_g (lw_at lw_m9 168 rfl) rfl
theorem q2213 : (Jvm.Cond.methodLink "CircuitCells" (369 : Nat) ({ cls := "java/util/ArrayDeque", name := "pollLast", desc := "()Ljava/lang/Object;" } : Jvm.MethodName)) ∈ lw_all := lw_g (lw_at lw_m9 178 rfl) rfl
theorem q2217 : (Jvm.Cond.methodLink "CircuitCells" (372 : Nat) ({ cls := "java/util/ArrayDeque", name := "addLast", desc := "(Ljava/lang/Object;)V" } : Jvm.MethodName)) ∈ lw_all := lw_g (lw_at lw_m9 182 rfl) rfl
theorem q2236 : (Jvm.Cond.methodLink "CircuitCells" (373 : Nat) ({ cls := "java/util/ArrayDeque", name := "peekFirst", desc := "()Ljava/lang/Object;" } : Jvm.MethodName)) ∈ lw_all := lw_g (lw_at lw_m9 201 rfl) rfl
theorem q2240 : (Jvm.Cond.methodLink "CircuitCells" (376 : Nat) ({ cls := "java/util/ArrayDeque", name := "pollFirst", desc := "()Ljava/lang/Object;" } : Jvm.MethodName)) ∈ lw_all := lw_g (lw_at lw_m9 205 rfl) rfl
theorem q2248 : (Jvm.Cond.instanceMethod ({ cls := "CircuitCells", name := "turn", desc := "(II)I" } : Jvm.MethodName)) ∈ lw_all := lw_g (lw_at lw_m9 213 rfl) rfl
theorem q2249 : (Jvm.Cond.selects "CircuitCells" ({ cls := "CircuitCells", name := "turn", desc := "(II)I" } : Jvm.MethodName) ({ cls := "CircuitCells", name := "turn", desc := "(II)I" } : Jvm.MethodName)) ∈ lw_all := lw_g (lw_at lw_m9 214 rfl) rfl
theorem q2250 : (Jvm.Cond.code ({ cls := "CircuitCells", name := "turn", desc := "(II)I" } : Jvm.MethodName) prog_1_method_26_code (5 : Nat) (Option.some Jvm.ClassFile.FieldType.int)) ∈ lw_all := lw_g (lw_at lw_m9 215 rfl) rfl
theorem q2255 : (Jvm.Cond.instanceMethod ({ cls := "CircuitCells", name := "then", desc := "(II)I" } : Jvm.MethodName)) ∈ lw_all := lw_g (lw_at lw_m9 220 rfl) rfl
theorem q2256 : (Jvm.Cond.selects "CircuitCells" ({ cls := "CircuitCells", name := "then", desc := "(II)I" } : Jvm.MethodName) ({ cls := "CircuitCells", name := "then", desc := "(II)I" } : Jvm.MethodName)) ∈ lw_all := lw_g (lw_at lw_m9 221 rfl) rfl
theorem q2257 : (Jvm.Cond.code ({ cls := "CircuitCells", name := "then", desc := "(II)I" } : Jvm.MethodName) prog_1_method_30_code (3 : Nat) (Option.some Jvm.ClassFile.FieldType.int)) ∈ lw_all := lw_g (lw_at lw_m9 222 rfl) rfl
theorem q2258 : (Jvm.Cond.methodLink "CircuitCells" (407 : Nat) ({ cls := "CircuitCells", name := "soon", desc := "(II)V" } : Jvm.MethodName)) ∈ lw_all := lw_g (lw_at lw_m9 223 rfl) rfl
theorem q2259 : (Jvm.Cond.static ({ cls := "CircuitCells", name := "soon", desc := "(II)V" } : Jvm.MethodName)) ∈ lw_all := lw_g (lw_at lw_m9 224 rfl) rfl
theorem q2260 : (Jvm.Cond.code ({ cls := "CircuitCells", name := "soon", desc := "(II)V" } : Jvm.MethodName) prog_1_method_29_code (2 : Nat) (Option.none : Option Jvm.ClassFile.FieldType)) ∈ lw_all := lw_g (lw_at lw_m9 225 rfl) rfl
theorem q2261 : (Jvm.Cond.interfaceEntry "CircuitCells" (418 : Nat)) ∈ lw_tbl := lw_at lw_m9 226 rfl
theorem q2262 : (Jvm.Cond.methodLink "CircuitCells" (418 : Nat) ({ cls := "CircuitCells$Look", name := "at", desc := "(LCircuitCells$State;)I" } : Jvm.MethodName)) ∈ lw_all := lw_g (lw_at lw_m9 227 rfl) rfl
theorem q2269 : (Jvm.Cond.instanceMethod ({ cls := "CircuitCells", name := "when", desc := "(I)I" } : Jvm.MethodName)) ∈ lw_all := lw_g (lw_at lw_m9 234 rfl) rfl
theorem q2270 : (Jvm.Cond.selects "CircuitCells" ({ cls := "CircuitCells", name := "when", desc := "(I)I" } : Jvm.MethodName) ({ cls := "CircuitCells", name := "when", desc := "(I)I" } : Jvm.MethodName)) ∈ lw_all := lw_g (lw_at lw_m9 235 rfl) rfl
theorem q2271 : (Jvm.Cond.code ({ cls := "CircuitCells", name := "when", desc := "(I)I" } : Jvm.MethodName) prog_1_method_32_code (2 : Nat) (Option.some Jvm.ClassFile.FieldType.int)) ∈ lw_all := lw_g (lw_at lw_m9 236 rfl) rfl
theorem q2272 : (Jvm.Cond.static ({ cls := "CircuitCells", name := "lambda$when$7", desc := "(LCircuitCells$State;)I" } : Jvm.MethodName)) ∈ lw_all := lw_g (lw_at lw_m9 237 rfl) rfl
theorem q2273 : (Jvm.Cond.code ({ cls := "CircuitCells", name := "lambda$when$7", desc := "(LCircuitCells$State;)I" } : Jvm.MethodName) prog_1_method_58_code (1 : Nat) (Option.some Jvm.ClassFile.FieldType.int)) ∈ lw_all := lw_g (lw_at lw_m9 238 rfl) rfl
theorem q2274 : (Jvm.Cond.static ({ cls := "CircuitCells", name := "lambda$when$8", desc := "(LCircuitCells$State;I)Z" } : Jvm.MethodName)) ∈ lw_all := lw_g (lw_at lw_m9 239 rfl) rfl
theorem q2275 : (Jvm.Cond.code ({ cls := "CircuitCells", name := "lambda$when$8", desc := "(LCircuitCells$State;I)Z" } : Jvm.MethodName) prog_1_method_57_code (2 : Nat) (Option.some Jvm.ClassFile.FieldType.boolean)) ∈ lw_all := lw_g (lw_at lw_m10 0 rfl) rfl
theorem q2276 : (Jvm.Cond.methodLink "CircuitCells" (433 : Nat) ({ cls := "CircuitCells", name := "waits", desc := "(LCircuitCells$Look;LCircuitCells$Wait;)I" } : Jvm.MethodName)) ∈ lw_all := lw_g (lw_at lw_m10 1 rfl) rfl
theorem q2277 : (Jvm.Cond.privateMethod ({ cls := "CircuitCells", name := "waits", desc := "(LCircuitCells$Look;LCircuitCells$Wait;)I" } : Jvm.MethodName)) ∈ lw_tbl := lw_at lw_m10 2 rfl
theorem q2278 : (Jvm.Cond.instanceMethod ({ cls := "CircuitCells", name := "waits", desc := "(LCircuitCells$Look;LCircuitCells$Wait;)I" } : Jvm.MethodName)) ∈ lw_all := lw_g (lw_at lw_m10 3 rfl) rfl
theorem q2279 : (Jvm.Cond.code ({ cls := "CircuitCells", name := "waits", desc := "(LCircuitCells$Look;LCircuitCells$Wait;)I" } : Jvm.MethodName) prog_1_method_31_code (5 : Nat) (Option.some Jvm.ClassFile.FieldType.int)) ∈ lw_all := lw_g (lw_at lw_m10 4 rfl) rfl
theorem q2280 : (Jvm.Cond.interfaceEntry "CircuitCells" (423 : Nat)) ∈ lw_tbl := lw_at lw_m10 5 rfl
theorem q2281 : (Jvm.Cond.methodLink "CircuitCells" (423 : Nat) ({ cls := "CircuitCells$Wait", name := "is", desc := "(LCircuitCells$State;I)Z" } : Jvm.MethodName)) ∈ lw_all := lw_g (lw_at lw_m10 6 rfl) rfl
theorem q2284 : (Jvm.Cond.static ({ cls := "CircuitCells", name := "lambda$when$9", desc := "(LCircuitCells$State;)I" } : Jvm.MethodName)) ∈ lw_all := lw_g (lw_at lw_m10 9 rfl) rfl
theorem q2285 : (Jvm.Cond.code ({ cls := "CircuitCells", name := "lambda$when$9", desc := "(LCircuitCells$State;)I" } : Jvm.MethodName) prog_1_method_56_code (1 : Nat) (Option.some Jvm.ClassFile.FieldType.int)) ∈ lw_all := lw_g (lw_at lw_m10 10 rfl) rfl
theorem q2286 : (Jvm.Cond.static ({ cls := "CircuitCells", name := "lambda$when$10", desc := "(LCircuitCells$State;I)Z" } : Jvm.MethodName)) ∈ lw_all := lw_g (lw_at lw_m10 11 rfl) rfl
theorem q2287 : (Jvm.Cond.code ({ cls := "CircuitCells", name := "lambda$when$10", desc := "(LCircuitCells$State;I)Z" } : Jvm.MethodName) prog_1_method_55_code (2 : Nat) (Option.some Jvm.ClassFile.FieldType.boolean)) ∈ lw_all := lw_g (lw_at lw_m10 12 rfl) rfl
theorem q2288 : (Jvm.Cond.static ({ cls := "CircuitCells", name := "lambda$when$11", desc := "(LCircuitCells$State;)I" } : Jvm.MethodName)) ∈ lw_all := lw_g (lw_at lw_m10 13 rfl) rfl
theorem q2289 : (Jvm.Cond.code ({ cls := "CircuitCells", name := "lambda$when$11", desc := "(LCircuitCells$State;)I" } : Jvm.MethodName) prog_1_method_54_code (1 : Nat) (Option.some Jvm.ClassFile.FieldType.int)) ∈ lw_all := lw_g (lw_at lw_m10 14 rfl) rfl
theorem q2290 : (Jvm.Cond.static ({ cls := "CircuitCells", name := "lambda$when$12", desc := "(LCircuitCells$State;I)Z" } : Jvm.MethodName)) ∈ lw_all := lw_g (lw_at lw_m10 15 rfl) rfl
theorem q2291 : (Jvm.Cond.code ({ cls := "CircuitCells", name := "lambda$when$12", desc := "(LCircuitCells$State;I)Z" } : Jvm.MethodName) prog_1_method_53_code (2 : Nat) (Option.some Jvm.ClassFile.FieldType.boolean)) ∈ lw_all := lw_g (lw_at lw_m10 16 rfl) rfl
theorem q2292 : (Jvm.Cond.static ({ cls := "CircuitCells", name := "lambda$when$13", desc := "(LCircuitCells$State;)I" } : Jvm.MethodName)) ∈ lw_all := lw_g (lw_at lw_m10 17 rfl) rfl
theorem q2293 : (Jvm.Cond.code ({ cls := "CircuitCells", name := "lambda$when$13", desc := "(LCircuitCells$State;)I" } : Jvm.MethodName) prog_1_method_52_code (1 : Nat) (Option.some Jvm.ClassFile.FieldType.int)) ∈ lw_all := lw_g (lw_at lw_m10 18 rfl) rfl
theorem q2294 : (Jvm.Cond.static ({ cls := "CircuitCells", name := "lambda$when$14", desc := "(LCircuitCells$State;I)Z" } : Jvm.MethodName)) ∈ lw_all := lw_g (lw_at lw_m10 19 rfl) rfl
theorem q2295 : (Jvm.Cond.code ({ cls := "CircuitCells", name := "lambda$when$14", desc := "(LCircuitCells$State;I)Z" } : Jvm.MethodName) prog_1_method_51_code (2 : Nat) (Option.some Jvm.ClassFile.FieldType.boolean)) ∈ lw_all := lw_g (lw_at lw_m10 20 rfl) rfl
theorem q2300 : (Jvm.Cond.instanceMethod ({ cls := "CircuitCells", name := "toAim", desc := "(II)I" } : Jvm.MethodName)) ∈ lw_all := lw_g (lw_at lw_m10 25 rfl) rfl
theorem q2301 : (Jvm.Cond.selects "CircuitCells" ({ cls := "CircuitCells", name := "toAim", desc := "(II)I" } : Jvm.MethodName) ({ cls := "CircuitCells", name := "toAim", desc := "(II)I" } : Jvm.MethodName)) ∈ lw_all := lw_g (lw_at lw_m10 26 rfl) rfl
theorem q2302 : (Jvm.Cond.code ({ cls := "CircuitCells", name := "toAim", desc := "(II)I" } : Jvm.MethodName) prog_1_method_35_code (6 : Nat) (Option.some Jvm.ClassFile.FieldType.int)) ∈ lw_all := lw_g (lw_at lw_m10 27 rfl) rfl
theorem q2303 : (Jvm.Cond.constant "CircuitCells" (449 : Nat) (999999 : Int32)) ∈ lw_all := lw_g (lw_at lw_m10 28 rfl) rfl
theorem q2304 : (Jvm.Cond.methodLink "CircuitCells" (450 : Nat) ({ cls := "CircuitCells$Course", name := "begins", desc := "(I)LCircuitCells$Course;" } : Jvm.MethodName)) ∈ lw_all := lw_g (lw_at lw_m10 29 rfl) rfl
theorem q2312 : (Jvm.Cond.instanceMethod ({ cls := "CircuitCells", name := "toGain", desc := "(II)I" } : Jvm.MethodName)) ∈ lw_all := lw_g (lw_at lw_m10 37 rfl) rfl
theorem q2313 : (Jvm.Cond.selects "CircuitCells" ({ cls := "CircuitCells", name := "toGain", desc := "(II)I" } : Jvm.MethodName) ({ cls := "CircuitCells", name := "toGain", desc := "(II)I" } : Jvm.MethodName)) ∈ lw_all := lw_g (lw_at lw_m10 38 rfl) rfl
theorem q2314 : (Jvm.Cond.code ({ cls := "CircuitCells", name := "toGain", desc := "(II)I" } : Jvm.MethodName) prog_1_method_37_code (7 : Nat) (Option.some Jvm.ClassFile.FieldType.int)) ∈ lw_all := lw_g (lw_at lw_m10 39 rfl) rfl
theorem q2315 : (Jvm.Cond.methodLink "CircuitCells" (454 : Nat) ({ cls := "CircuitCells", name := "mostOff", desc := "(I)I" } : Jvm.MethodName)) ∈ lw_all := lw_g (lw_at lw_m10 40 rfl) rfl
theorem q2316 : (Jvm.Cond.privateMethod ({ cls := "CircuitCells", name := "mostOff", desc := "(I)I" } : Jvm.MethodName)) ∈ lw_tbl := lw_at lw_m10 41 rfl
theorem q2317 : (Jvm.Cond.instanceMethod ({ cls := "CircuitCells", name := "mostOff", desc := "(I)I" } : Jvm.MethodName)) ∈ lw_all := lw_g (lw_at lw_m10 42 rfl) rfl
theorem q2318 : (Jvm.Cond.code ({ cls := "CircuitCells", name := "mostOff", desc := "(I)I" } : Jvm.MethodName) prog_1_method_36_code (4 : Nat) (Option.some Jvm.ClassFile.FieldType.int)) ∈ lw_all := lw_g (lw_at lw_m10 43 rfl) rfl
theorem q2323 : (Jvm.Cond.instanceMethod ({ cls := "CircuitCells", name := "other", desc := "(I)I" } : Jvm.MethodName)) ∈ lw_all := lw_g (lw_at lw_m10 48 rfl) rfl
theorem q2324 : (Jvm.Cond.selects "CircuitCells" ({ cls := "CircuitCells", name := "other", desc := "(I)I" } : Jvm.MethodName) ({ cls := "CircuitCells", name := "other", desc := "(I)I" } : Jvm.MethodName)) ∈ lw_all := lw_g (lw_at lw_m10 49 rfl) rfl
theorem q2325 : (Jvm.Cond.code ({ cls := "CircuitCells", name := "other", desc := "(I)I" } : Jvm.MethodName) prog_1_method_41_code (5 : Nat) (Option.some Jvm.ClassFile.FieldType.int)) ∈ lw_all := lw_g (lw_at lw_m10 50 rfl) rfl
theorem q2326 : (Jvm.Cond.methodLink "CircuitCells" (462 : Nat) ({ cls := "CircuitCells", name := "isNoted", desc := "()Z" } : Jvm.MethodName)) ∈ lw_all := lw_g (lw_at lw_m10 51 rfl) rfl
theorem q2327 : (Jvm.Cond.privateMethod ({ cls := "CircuitCells", name := "isNoted", desc := "()Z" } : Jvm.MethodName)) ∈ lw_tbl := lw_at lw_m10 52 rfl
theorem q2328 : (Jvm.Cond.instanceMethod ({ cls := "CircuitCells", name := "isNoted", desc := "()Z" } : Jvm.MethodName)) ∈ lw_all := lw_g (lw_at lw_m10 53 rfl) rfl
theorem q2329 : (Jvm.Cond.code ({ cls := "CircuitCells", name := "isNoted", desc := "()Z" } : Jvm.MethodName) prog_1_method_39_code (4 : Nat) (Option.some Jvm.ClassFile.FieldType.boolean)) ∈ lw_all := lw_g (lw_at lw_m10 54 rfl) rfl
theorem q2330 : (Jvm.Cond.methodLink "CircuitCells" (465 : Nat) ({ cls := "CircuitCells", name := "isGuess", desc := "(I)Z" } : Jvm.MethodName)) ∈ lw_all := lw_g (lw_at lw_m10 55 rfl) rfl
theorem q2331 : (Jvm.Cond.privateMethod ({ cls := "CircuitCells", name := "isGuess", desc := "(I)Z" } : Jvm.MethodName)) ∈ lw_tbl := lw_at lw_m10 56 rfl
theorem q2332 : (Jvm.Cond.instanceMethod ({ cls := "CircuitCells", name := "isGuess", desc := "(I)Z" } : Jvm.MethodName)) ∈ lw_all := lw_g (lw_at lw_m10 57 rfl) rfl
theorem q2333 : (Jvm.Cond.code ({ cls := "CircuitCells", name := "isGuess", desc := "(I)Z" } : Jvm.MethodName) prog_1_method_40_code (2 : Nat) (Option.some Jvm.ClassFile.FieldType.boolean)) ∈ lw_all := lw_g (lw_at lw_m10 58 rfl) rfl
theorem q2338 : (Jvm.Cond.instanceMethod ({ cls := "CircuitCells", name := "look", desc := "(I)I" } : Jvm.MethodName)) ∈ lw_all := lw_g (lw_at lw_m10 63 rfl) rfl
theorem q2339 : (Jvm.Cond.selects "CircuitCells" ({ cls := "CircuitCells", name := "look", desc := "(I)I" } : Jvm.MethodName) ({ cls := "CircuitCells", name := "look", desc := "(I)I" } : Jvm.MethodName)) ∈ lw_all := lw_g (lw_at lw_m10 64 rfl) rfl
theorem q2340 : (Jvm.Cond.code ({ cls := "CircuitCells", name := "look", desc := "(I)I" } : Jvm.MethodName) prog_1_method_43_code (7 : Nat) (Option.some Jvm.ClassFile.FieldType.int)) ∈ lw_all := lw_g (lw_at lw_m10 65 rfl) rfl
theorem q2341 : (Jvm.Cond.methodLink "CircuitCells" (468 : Nat) ({ cls := "java/lang/System", name := "arraycopy", desc := "(Ljava/lang/Object;ILjava/lang/Object;II)V" } : Jvm.MethodName)) ∈ lw_all := lw_g (lw_at lw_m10 66 rfl) rfl
theorem q2342 : (Jvm.Cond.methodLink "CircuitCells" (474 : Nat) ({ cls := "CircuitCells", name := "unlike", desc := "(II)I" } : Jvm.MethodName)) ∈ lw_all := lw_g (lw_at lw_m10 67 rfl) rfl
theorem q2343 : (Jvm.Cond.privateMethod ({ cls := "CircuitCells", name := "unlike", desc := "(II)I" } : Jvm.MethodName)) ∈ lw_tbl := lw_at lw_m10 68 rfl
theorem q2344 : (Jvm.Cond.instanceMethod ({ cls := "CircuitCells", name := "unlike", desc := "(II)I" } : Jvm.MethodName)) ∈ lw_all := lw_g (lw_at lw_m10 69 rfl) rfl
theorem q2345 : (Jvm.Cond.code ({ cls := "CircuitCells", name := "unlike", desc := "(II)I" } : Jvm.MethodName) prog_1_method_42_code (6 : Nat) (Option.some Jvm.ClassFile.FieldType.int)) ∈ lw_all := lw_g (lw_at lw_m10 70 rfl) rfl
theorem q2350 : (Jvm.Cond.instanceMethod ({ cls := "CircuitCells", name := "storms", desc := "(II)I" } : Jvm.MethodName)) ∈ lw_all := lw_g (lw_at lw_m10 75 rfl) rfl
theorem q2351 : (Jvm.Cond.selects "CircuitCells" ({ cls := "CircuitCells", name := "storms", desc := "(II)I" } : Jvm.MethodName) ({ cls := "CircuitCells", name := "storms", desc := "(II)I" } : Jvm.MethodName)) ∈ lw_all := lw_g (lw_at lw_m10 76 rfl) rfl
theorem q2352 : (Jvm.Cond.code ({ cls := "CircuitCells", name := "storms", desc := "(II)I" } : Jvm.MethodName) prog_1_method_45_code (7 : Nat) (Option.some Jvm.ClassFile.FieldType.int)) ∈ lw_all := lw_g (lw_at lw_m10 77 rfl) rfl
theorem q2357 : (Jvm.Cond.instanceMethod ({ cls := "CircuitCells", name := "years", desc := "(III)I" } : Jvm.MethodName)) ∈ lw_all := lw_g (lw_at lw_m10 82 rfl) rfl
theorem q2358 : (Jvm.Cond.selects "CircuitCells" ({ cls := "CircuitCells", name := "years", desc := "(III)I" } : Jvm.MethodName) ({ cls := "CircuitCells", name := "years", desc := "(III)I" } : Jvm.MethodName)) ∈ lw_all := lw_g (lw_at lw_m10 83 rfl) rfl
theorem q2359 : (Jvm.Cond.code ({ cls := "CircuitCells", name := "years", desc := "(III)I" } : Jvm.MethodName) prog_1_method_48_code (6 : Nat) (Option.some Jvm.ClassFile.FieldType.int)) ∈ lw_all := lw_g (lw_at lw_m10 84 rfl) rfl
theorem q2360 : (Jvm.Cond.methodLink "CircuitCells" (490 : Nat) ({ cls := "CircuitCells", name := "happens", desc := "()V" } : Jvm.MethodName)) ∈ lw_all := lw_g (lw_at lw_m10 85 rfl) rfl
theorem q2361 : (Jvm.Cond.privateMethod ({ cls := "CircuitCells", name := "happens", desc := "()V" } : Jvm.MethodName)) ∈ lw_tbl := lw_at lw_m10 86 rfl
theorem q2362 : (Jvm.Cond.instanceMethod ({ cls := "CircuitCells", name := "happens", desc := "()V" } : Jvm.MethodName)) ∈ lw_all := lw_g (lw_at lw_m10 87 rfl) rfl
theorem q2363 : (Jvm.Cond.code ({ cls := "CircuitCells", name := "happens", desc := "()V" } : Jvm.MethodName) prog_1_method_47_code (1 : Nat) (Option.none : Option Jvm.ClassFile.FieldType)) ∈ lw_all := lw_g (lw_at lw_m10 88 rfl) rfl
theorem q2364 : (Jvm.Cond.methodLink "CircuitCells" (487 : Nat) ({ cls := "CircuitCells", name := "draw", desc := "(I)I" } : Jvm.MethodName)) ∈ lw_all := lw_g (lw_at lw_m10 89 rfl) rfl
theorem q2365 : (Jvm.Cond.privateMethod ({ cls := "CircuitCells", name := "draw", desc := "(I)I" } : Jvm.MethodName)) ∈ lw_tbl := lw_at lw_m10 90 rfl
theorem q2366 : (Jvm.Cond.instanceMethod ({ cls := "CircuitCells", name := "draw", desc := "(I)I" } : Jvm.MethodName)) ∈ lw_all := lw_g (lw_at lw_m10 91 rfl) rfl
theorem q2367 : (Jvm.Cond.code ({ cls := "CircuitCells", name := "draw", desc := "(I)I" } : Jvm.MethodName) prog_1_method_46_code (2 : Nat) (Option.some Jvm.ClassFile.FieldType.int)) ∈ lw_all := lw_g (lw_at lw_m10 92 rfl) rfl
theorem q2368 : (Jvm.Cond.constant "CircuitCells" (486 : Nat) (1103515245 : Int32)) ∈ lw_all := lw_g (lw_at lw_m10 93 rfl) rfl
theorem q2966 : (Jvm.Cond.castable "CircuitCells" "java/lang/Object") ∈ lw_tbl := lw_at lw_m12 211 rfl

abbrev cX5_init : ByteArray := prog_2_method_1_code
def yX5_init : MethodName := ⟨RX5, "<init>", "()V"⟩
def dkwX5_init_3 : List UInt8 := [182, 0, 37, 87, 132, 1, 1, 167, 255, 232, 177]
abbrev dktX5_init_3 : List UInt8 := dkwX5_init_3 ++ []
def dkwX5_init_2 : List UInt8 := [188, 10, 181, 0, 34, 3, 60, 27, 16, 40, 162, 0, 24, 42, 180, 0, 23, 187, 0, 9, 89, 183, 0, 11]
abbrev dktX5_init_2 : List UInt8 := dkwX5_init_2 ++ dktX5_init_3
def dkwX5_init_1 : List UInt8 := [183, 0, 20, 181, 0, 23, 42, 16, 8, 188, 10, 181, 0, 27, 42, 16, 8, 188, 10, 181, 0, 31, 42, 6]
abbrev dktX5_init_1 : List UInt8 := dkwX5_init_1 ++ dktX5_init_2
def dkwX5_init_0 : List UInt8 := [42, 183, 0, 3, 42, 187, 0, 9, 89, 183, 0, 11, 181, 0, 12, 42, 187, 0, 18, 89, 16, 40]
abbrev dktX5_init_0 : List UInt8 := dkwX5_init_0 ++ dktX5_init_1
theorem dksX5_init_0 : cX5_init.data.toList.drop 0 = dktX5_init_0 := by decide +kernel
theorem dksX5_init_1 : cX5_init.data.toList.drop 22 = dktX5_init_1 := dk_seg dksX5_init_0 22 rfl rfl
theorem dksX5_init_2 : cX5_init.data.toList.drop 46 = dktX5_init_2 := dk_seg dksX5_init_1 24 rfl rfl
theorem dksX5_init_3 : cX5_init.data.toList.drop 70 = dktX5_init_3 := dk_seg dksX5_init_2 24 rfl rfl
theorem dX5_init_0 : decode cX5_init 0 = .ok (.aload_n 0, 1) := dk_42 (dk_at dksX5_init_0 0 rfl rfl)
theorem dX5_init_1 : decode cX5_init 1 = .ok (.invokespecial 3, 3) := dk_183 0 3 (dk_at dksX5_init_0 1 rfl rfl)
theorem dX5_init_4 : decode cX5_init 4 = .ok (.aload_n 0, 1) := dk_42 (dk_at dksX5_init_0 4 rfl rfl)
theorem dX5_init_5 : decode cX5_init 5 = .ok (.new 9, 3) := dk_187 0 9 (dk_at dksX5_init_0 5 rfl rfl)
theorem dX5_init_8 : decode cX5_init 8 = .ok (.dup, 1) := dk_89 (dk_at dksX5_init_0 8 rfl rfl)
theorem dX5_init_9 : decode cX5_init 9 = .ok (.invokespecial 11, 3) := dk_183 0 11 (dk_at dksX5_init_0 9 rfl rfl)
theorem dX5_init_12 : decode cX5_init 12 = .ok (.putfield 12, 3) := dk_181 0 12 (dk_at dksX5_init_0 12 rfl rfl)
theorem dX5_init_15 : decode cX5_init 15 = .ok (.aload_n 0, 1) := dk_42 (dk_at dksX5_init_0 15 rfl rfl)
theorem dX5_init_16 : decode cX5_init 16 = .ok (.new 18, 3) := dk_187 0 18 (dk_at dksX5_init_0 16 rfl rfl)
theorem dX5_init_19 : decode cX5_init 19 = .ok (.dup, 1) := dk_89 (dk_at dksX5_init_0 19 rfl rfl)
theorem dX5_init_20 : decode cX5_init 20 = .ok (.bipush 40, 2) := dk_16 40 (dk_at dksX5_init_0 20 rfl rfl)
theorem dX5_init_22 : decode cX5_init 22 = .ok (.invokespecial 20, 3) := dk_183 0 20 (dk_at dksX5_init_1 0 rfl rfl)
theorem dX5_init_25 : decode cX5_init 25 = .ok (.putfield 23, 3) := dk_181 0 23 (dk_at dksX5_init_1 3 rfl rfl)
theorem dX5_init_28 : decode cX5_init 28 = .ok (.aload_n 0, 1) := dk_42 (dk_at dksX5_init_1 6 rfl rfl)
theorem dX5_init_29 : decode cX5_init 29 = .ok (.bipush 8, 2) := dk_16 8 (dk_at dksX5_init_1 7 rfl rfl)
theorem dX5_init_31 : decode cX5_init 31 = .ok (.newarray .int, 2) := dk_188_10 (dk_at dksX5_init_1 9 rfl rfl)
theorem dX5_init_33 : decode cX5_init 33 = .ok (.putfield 27, 3) := dk_181 0 27 (dk_at dksX5_init_1 11 rfl rfl)
theorem dX5_init_36 : decode cX5_init 36 = .ok (.aload_n 0, 1) := dk_42 (dk_at dksX5_init_1 14 rfl rfl)
theorem dX5_init_37 : decode cX5_init 37 = .ok (.bipush 8, 2) := dk_16 8 (dk_at dksX5_init_1 15 rfl rfl)
theorem dX5_init_39 : decode cX5_init 39 = .ok (.newarray .int, 2) := dk_188_10 (dk_at dksX5_init_1 17 rfl rfl)
theorem dX5_init_41 : decode cX5_init 41 = .ok (.putfield 31, 3) := dk_181 0 31 (dk_at dksX5_init_1 19 rfl rfl)
theorem dX5_init_44 : decode cX5_init 44 = .ok (.aload_n 0, 1) := dk_42 (dk_at dksX5_init_1 22 rfl rfl)
theorem dX5_init_45 : decode cX5_init 45 = .ok (.iconst 3, 1) := dk_6 (dk_at dksX5_init_1 23 rfl rfl)
theorem dX5_init_46 : decode cX5_init 46 = .ok (.newarray .int, 2) := dk_188_10 (dk_at dksX5_init_2 0 rfl rfl)
theorem dX5_init_48 : decode cX5_init 48 = .ok (.putfield 34, 3) := dk_181 0 34 (dk_at dksX5_init_2 2 rfl rfl)
theorem dX5_init_51 : decode cX5_init 51 = .ok (.iconst 0, 1) := dk_3 (dk_at dksX5_init_2 5 rfl rfl)
theorem dX5_init_52 : decode cX5_init 52 = .ok (.istore_n 1, 1) := dk_60 (dk_at dksX5_init_2 6 rfl rfl)
theorem dX5_init_53 : decode cX5_init 53 = .ok (.iload_n 1, 1) := dk_27 (dk_at dksX5_init_2 7 rfl rfl)
theorem dX5_init_54 : decode cX5_init 54 = .ok (.bipush 40, 2) := dk_16 40 (dk_at dksX5_init_2 8 rfl rfl)
theorem dX5_init_56 : decode cX5_init 56 = .ok (.if_icmp .ge 24, 3) := dk_162 0 24 (dk_at dksX5_init_2 10 rfl rfl)
theorem dX5_init_59 : decode cX5_init 59 = .ok (.aload_n 0, 1) := dk_42 (dk_at dksX5_init_2 13 rfl rfl)
theorem dX5_init_60 : decode cX5_init 60 = .ok (.getfield 23, 3) := dk_180 0 23 (dk_at dksX5_init_2 14 rfl rfl)
theorem dX5_init_63 : decode cX5_init 63 = .ok (.new 9, 3) := dk_187 0 9 (dk_at dksX5_init_2 17 rfl rfl)
theorem dX5_init_66 : decode cX5_init 66 = .ok (.dup, 1) := dk_89 (dk_at dksX5_init_2 20 rfl rfl)
theorem dX5_init_67 : decode cX5_init 67 = .ok (.invokespecial 11, 3) := dk_183 0 11 (dk_at dksX5_init_2 21 rfl rfl)
theorem dX5_init_70 : decode cX5_init 70 = .ok (.invokevirtual 37, 3) := dk_182 0 37 (dk_at dksX5_init_3 0 rfl rfl)
theorem dX5_init_73 : decode cX5_init 73 = .ok (.pop, 1) := dk_87 (dk_at dksX5_init_3 3 rfl rfl)
theorem dX5_init_74 : decode cX5_init 74 = .ok (.iinc 1 1, 3) := dk_132 1 1 (dk_at dksX5_init_3 4 rfl rfl)
theorem dX5_init_77 : decode cX5_init 77 = .ok (.goto (-24), 3) := dk_167 255 232 (dk_at dksX5_init_3 7 rfl rfl)
theorem dX5_init_80 : decode cX5_init 80 = .ok (.return_, 1) := dk_177 (dk_at dksX5_init_3 10 rfl rfl)
abbrev cX5_keeps : ByteArray := prog_2_method_2_code
def yX5_keeps : MethodName := ⟨RX5, "keeps", "()V"⟩
def dkwX5_keeps_2 : List UInt8 := [182, 0, 49, 192, 0, 9, 42, 180, 0, 12, 182, 0, 52, 42, 89, 180, 0, 41, 4, 96, 181, 0, 41, 177]
abbrev dktX5_keeps_2 : List UInt8 := dkwX5_keeps_2 ++ []
def dkwX5_keeps_1 : List UInt8 := [182, 0, 37, 87, 42, 89, 180, 0, 41, 4, 100, 181, 0, 41, 42, 180, 0, 23, 42, 180, 0, 41]
abbrev dktX5_keeps_1 : List UInt8 := dkwX5_keeps_1 ++ dktX5_keeps_2
def dkwX5_keeps_0 : List UInt8 := [42, 180, 0, 41, 16, 40, 160, 0, 32, 42, 180, 0, 23, 42, 180, 0, 23, 3, 182, 0, 45, 192, 0, 9]
abbrev dktX5_keeps_0 : List UInt8 := dkwX5_keeps_0 ++ dktX5_keeps_1
theorem dksX5_keeps_0 : cX5_keeps.data.toList.drop 0 = dktX5_keeps_0 := by decide +kernel
theorem dksX5_keeps_1 : cX5_keeps.data.toList.drop 24 = dktX5_keeps_1 := dk_seg dksX5_keeps_0 24 rfl rfl
theorem dksX5_keeps_2 : cX5_keeps.data.toList.drop 46 = dktX5_keeps_2 := dk_seg dksX5_keeps_1 22 rfl rfl
theorem dX5_keeps_0 : decode cX5_keeps 0 = .ok (.aload_n 0, 1) := dk_42 (dk_at dksX5_keeps_0 0 rfl rfl)
theorem dX5_keeps_1 : decode cX5_keeps 1 = .ok (.getfield 41, 3) := dk_180 0 41 (dk_at dksX5_keeps_0 1 rfl rfl)
theorem dX5_keeps_4 : decode cX5_keeps 4 = .ok (.bipush 40, 2) := dk_16 40 (dk_at dksX5_keeps_0 4 rfl rfl)
theorem dX5_keeps_6 : decode cX5_keeps 6 = .ok (.if_icmp .ne 32, 3) := dk_160 0 32 (dk_at dksX5_keeps_0 6 rfl rfl)
theorem dX5_keeps_9 : decode cX5_keeps 9 = .ok (.aload_n 0, 1) := dk_42 (dk_at dksX5_keeps_0 9 rfl rfl)
theorem dX5_keeps_10 : decode cX5_keeps 10 = .ok (.getfield 23, 3) := dk_180 0 23 (dk_at dksX5_keeps_0 10 rfl rfl)
theorem dX5_keeps_13 : decode cX5_keeps 13 = .ok (.aload_n 0, 1) := dk_42 (dk_at dksX5_keeps_0 13 rfl rfl)
theorem dX5_keeps_14 : decode cX5_keeps 14 = .ok (.getfield 23, 3) := dk_180 0 23 (dk_at dksX5_keeps_0 14 rfl rfl)
theorem dX5_keeps_17 : decode cX5_keeps 17 = .ok (.iconst 0, 1) := dk_3 (dk_at dksX5_keeps_0 17 rfl rfl)
theorem dX5_keeps_18 : decode cX5_keeps 18 = .ok (.invokevirtual 45, 3) := dk_182 0 45 (dk_at dksX5_keeps_0 18 rfl rfl)
theorem dX5_keeps_21 : decode cX5_keeps 21 = .ok (.checkcast 9, 3) := dk_192 0 9 (dk_at dksX5_keeps_0 21 rfl rfl)
theorem dX5_keeps_24 : decode cX5_keeps 24 = .ok (.invokevirtual 37, 3) := dk_182 0 37 (dk_at dksX5_keeps_1 0 rfl rfl)
theorem dX5_keeps_27 : decode cX5_keeps 27 = .ok (.pop, 1) := dk_87 (dk_at dksX5_keeps_1 3 rfl rfl)
theorem dX5_keeps_28 : decode cX5_keeps 28 = .ok (.aload_n 0, 1) := dk_42 (dk_at dksX5_keeps_1 4 rfl rfl)
theorem dX5_keeps_29 : decode cX5_keeps 29 = .ok (.dup, 1) := dk_89 (dk_at dksX5_keeps_1 5 rfl rfl)
theorem dX5_keeps_30 : decode cX5_keeps 30 = .ok (.getfield 41, 3) := dk_180 0 41 (dk_at dksX5_keeps_1 6 rfl rfl)
theorem dX5_keeps_33 : decode cX5_keeps 33 = .ok (.iconst 1, 1) := dk_4 (dk_at dksX5_keeps_1 9 rfl rfl)
theorem dX5_keeps_34 : decode cX5_keeps 34 = .ok (.isub, 1) := dk_100 (dk_at dksX5_keeps_1 10 rfl rfl)
theorem dX5_keeps_35 : decode cX5_keeps 35 = .ok (.putfield 41, 3) := dk_181 0 41 (dk_at dksX5_keeps_1 11 rfl rfl)
theorem dX5_keeps_38 : decode cX5_keeps 38 = .ok (.aload_n 0, 1) := dk_42 (dk_at dksX5_keeps_1 14 rfl rfl)
theorem dX5_keeps_39 : decode cX5_keeps 39 = .ok (.getfield 23, 3) := dk_180 0 23 (dk_at dksX5_keeps_1 15 rfl rfl)
theorem dX5_keeps_42 : decode cX5_keeps 42 = .ok (.aload_n 0, 1) := dk_42 (dk_at dksX5_keeps_1 18 rfl rfl)
theorem dX5_keeps_43 : decode cX5_keeps 43 = .ok (.getfield 41, 3) := dk_180 0 41 (dk_at dksX5_keeps_1 19 rfl rfl)
theorem dX5_keeps_46 : decode cX5_keeps 46 = .ok (.invokevirtual 49, 3) := dk_182 0 49 (dk_at dksX5_keeps_2 0 rfl rfl)
theorem dX5_keeps_49 : decode cX5_keeps 49 = .ok (.checkcast 9, 3) := dk_192 0 9 (dk_at dksX5_keeps_2 3 rfl rfl)
theorem dX5_keeps_52 : decode cX5_keeps 52 = .ok (.aload_n 0, 1) := dk_42 (dk_at dksX5_keeps_2 6 rfl rfl)
theorem dX5_keeps_53 : decode cX5_keeps 53 = .ok (.getfield 12, 3) := dk_180 0 12 (dk_at dksX5_keeps_2 7 rfl rfl)
theorem dX5_keeps_56 : decode cX5_keeps 56 = .ok (.invokevirtual 52, 3) := dk_182 0 52 (dk_at dksX5_keeps_2 10 rfl rfl)
theorem dX5_keeps_59 : decode cX5_keeps 59 = .ok (.aload_n 0, 1) := dk_42 (dk_at dksX5_keeps_2 13 rfl rfl)
theorem dX5_keeps_60 : decode cX5_keeps 60 = .ok (.dup, 1) := dk_89 (dk_at dksX5_keeps_2 14 rfl rfl)
theorem dX5_keeps_61 : decode cX5_keeps 61 = .ok (.getfield 41, 3) := dk_180 0 41 (dk_at dksX5_keeps_2 15 rfl rfl)
theorem dX5_keeps_64 : decode cX5_keeps 64 = .ok (.iconst 1, 1) := dk_4 (dk_at dksX5_keeps_2 18 rfl rfl)
theorem dX5_keeps_65 : decode cX5_keeps 65 = .ok (.iadd, 1) := dk_96 (dk_at dksX5_keeps_2 19 rfl rfl)
theorem dX5_keeps_66 : decode cX5_keeps 66 = .ok (.putfield 41, 3) := dk_181 0 41 (dk_at dksX5_keeps_2 20 rfl rfl)
theorem dX5_keeps_69 : decode cX5_keeps 69 = .ok (.return_, 1) := dk_177 (dk_at dksX5_keeps_2 23 rfl rfl)
abbrev cX5_like : ByteArray := prog_2_method_3_code
def yX5_like : MethodName := ⟨RX5, "like", "(LCircuitCells$Book;)V"⟩
def dkwX5_like_4 : List UInt8 := [181, 0, 41, 42, 43, 180, 0, 60, 181, 0, 60, 177]
abbrev dktX5_like_4 : List UInt8 := dkwX5_like_4 ++ []
def dkwX5_like_3 : List UInt8 := [180, 0, 31, 184, 0, 56, 43, 180, 0, 34, 42, 180, 0, 34, 184, 0, 56, 42, 43, 180, 0, 41]
abbrev dktX5_like_3 : List UInt8 := dkwX5_like_3 ++ dktX5_like_4
def dkwX5_like_2 : List UInt8 := [132, 2, 1, 167, 255, 220, 43, 180, 0, 27, 42, 180, 0, 27, 184, 0, 56, 43, 180, 0, 31, 42]
abbrev dktX5_like_2 : List UInt8 := dkwX5_like_2 ++ dktX5_like_3
def dkwX5_like_1 : List UInt8 := [180, 0, 23, 28, 182, 0, 49, 192, 0, 9, 43, 180, 0, 23, 28, 182, 0, 49, 192, 0, 9, 182, 0, 52]
abbrev dktX5_like_1 : List UInt8 := dkwX5_like_1 ++ dktX5_like_2
def dkwX5_like_0 : List UInt8 := [42, 180, 0, 12, 43, 180, 0, 12, 182, 0, 52, 3, 61, 28, 43, 180, 0, 41, 162, 0, 34, 42]
abbrev dktX5_like_0 : List UInt8 := dkwX5_like_0 ++ dktX5_like_1
theorem dksX5_like_0 : cX5_like.data.toList.drop 0 = dktX5_like_0 := by decide +kernel
theorem dksX5_like_1 : cX5_like.data.toList.drop 22 = dktX5_like_1 := dk_seg dksX5_like_0 22 rfl rfl
theorem dksX5_like_2 : cX5_like.data.toList.drop 46 = dktX5_like_2 := dk_seg dksX5_like_1 24 rfl rfl
theorem dksX5_like_3 : cX5_like.data.toList.drop 68 = dktX5_like_3 := dk_seg dksX5_like_2 22 rfl rfl
theorem dksX5_like_4 : cX5_like.data.toList.drop 90 = dktX5_like_4 := dk_seg dksX5_like_3 22 rfl rfl
theorem dX5_like_0 : decode cX5_like 0 = .ok (.aload_n 0, 1) := dk_42 (dk_at dksX5_like_0 0 rfl rfl)
theorem dX5_like_1 : decode cX5_like 1 = .ok (.getfield 12, 3) := dk_180 0 12 (dk_at dksX5_like_0 1 rfl rfl)
theorem dX5_like_4 : decode cX5_like 4 = .ok (.aload_n 1, 1) := dk_43 (dk_at dksX5_like_0 4 rfl rfl)
theorem dX5_like_5 : decode cX5_like 5 = .ok (.getfield 12, 3) := dk_180 0 12 (dk_at dksX5_like_0 5 rfl rfl)
theorem dX5_like_8 : decode cX5_like 8 = .ok (.invokevirtual 52, 3) := dk_182 0 52 (dk_at dksX5_like_0 8 rfl rfl)
theorem dX5_like_11 : decode cX5_like 11 = .ok (.iconst 0, 1) := dk_3 (dk_at dksX5_like_0 11 rfl rfl)
theorem dX5_like_12 : decode cX5_like 12 = .ok (.istore_n 2, 1) := dk_61 (dk_at dksX5_like_0 12 rfl rfl)
theorem dX5_like_13 : decode cX5_like 13 = .ok (.iload_n 2, 1) := dk_28 (dk_at dksX5_like_0 13 rfl rfl)
theorem dX5_like_14 : decode cX5_like 14 = .ok (.aload_n 1, 1) := dk_43 (dk_at dksX5_like_0 14 rfl rfl)
theorem dX5_like_15 : decode cX5_like 15 = .ok (.getfield 41, 3) := dk_180 0 41 (dk_at dksX5_like_0 15 rfl rfl)
theorem dX5_like_18 : decode cX5_like 18 = .ok (.if_icmp .ge 34, 3) := dk_162 0 34 (dk_at dksX5_like_0 18 rfl rfl)
theorem dX5_like_21 : decode cX5_like 21 = .ok (.aload_n 0, 1) := dk_42 (dk_at dksX5_like_0 21 rfl rfl)
theorem dX5_like_22 : decode cX5_like 22 = .ok (.getfield 23, 3) := dk_180 0 23 (dk_at dksX5_like_1 0 rfl rfl)
theorem dX5_like_25 : decode cX5_like 25 = .ok (.iload_n 2, 1) := dk_28 (dk_at dksX5_like_1 3 rfl rfl)
theorem dX5_like_26 : decode cX5_like 26 = .ok (.invokevirtual 49, 3) := dk_182 0 49 (dk_at dksX5_like_1 4 rfl rfl)
theorem dX5_like_29 : decode cX5_like 29 = .ok (.checkcast 9, 3) := dk_192 0 9 (dk_at dksX5_like_1 7 rfl rfl)
theorem dX5_like_32 : decode cX5_like 32 = .ok (.aload_n 1, 1) := dk_43 (dk_at dksX5_like_1 10 rfl rfl)
theorem dX5_like_33 : decode cX5_like 33 = .ok (.getfield 23, 3) := dk_180 0 23 (dk_at dksX5_like_1 11 rfl rfl)
theorem dX5_like_36 : decode cX5_like 36 = .ok (.iload_n 2, 1) := dk_28 (dk_at dksX5_like_1 14 rfl rfl)
theorem dX5_like_37 : decode cX5_like 37 = .ok (.invokevirtual 49, 3) := dk_182 0 49 (dk_at dksX5_like_1 15 rfl rfl)
theorem dX5_like_40 : decode cX5_like 40 = .ok (.checkcast 9, 3) := dk_192 0 9 (dk_at dksX5_like_1 18 rfl rfl)
theorem dX5_like_43 : decode cX5_like 43 = .ok (.invokevirtual 52, 3) := dk_182 0 52 (dk_at dksX5_like_1 21 rfl rfl)
theorem dX5_like_46 : decode cX5_like 46 = .ok (.iinc 2 1, 3) := dk_132 2 1 (dk_at dksX5_like_2 0 rfl rfl)
theorem dX5_like_49 : decode cX5_like 49 = .ok (.goto (-36), 3) := dk_167 255 220 (dk_at dksX5_like_2 3 rfl rfl)
theorem dX5_like_52 : decode cX5_like 52 = .ok (.aload_n 1, 1) := dk_43 (dk_at dksX5_like_2 6 rfl rfl)
theorem dX5_like_53 : decode cX5_like 53 = .ok (.getfield 27, 3) := dk_180 0 27 (dk_at dksX5_like_2 7 rfl rfl)
theorem dX5_like_56 : decode cX5_like 56 = .ok (.aload_n 0, 1) := dk_42 (dk_at dksX5_like_2 10 rfl rfl)
theorem dX5_like_57 : decode cX5_like 57 = .ok (.getfield 27, 3) := dk_180 0 27 (dk_at dksX5_like_2 11 rfl rfl)
theorem dX5_like_60 : decode cX5_like 60 = .ok (.invokestatic 56, 3) := dk_184 0 56 (dk_at dksX5_like_2 14 rfl rfl)
theorem dX5_like_63 : decode cX5_like 63 = .ok (.aload_n 1, 1) := dk_43 (dk_at dksX5_like_2 17 rfl rfl)
theorem dX5_like_64 : decode cX5_like 64 = .ok (.getfield 31, 3) := dk_180 0 31 (dk_at dksX5_like_2 18 rfl rfl)
theorem dX5_like_67 : decode cX5_like 67 = .ok (.aload_n 0, 1) := dk_42 (dk_at dksX5_like_2 21 rfl rfl)
theorem dX5_like_68 : decode cX5_like 68 = .ok (.getfield 31, 3) := dk_180 0 31 (dk_at dksX5_like_3 0 rfl rfl)
theorem dX5_like_71 : decode cX5_like 71 = .ok (.invokestatic 56, 3) := dk_184 0 56 (dk_at dksX5_like_3 3 rfl rfl)
theorem dX5_like_74 : decode cX5_like 74 = .ok (.aload_n 1, 1) := dk_43 (dk_at dksX5_like_3 6 rfl rfl)
theorem dX5_like_75 : decode cX5_like 75 = .ok (.getfield 34, 3) := dk_180 0 34 (dk_at dksX5_like_3 7 rfl rfl)
theorem dX5_like_78 : decode cX5_like 78 = .ok (.aload_n 0, 1) := dk_42 (dk_at dksX5_like_3 10 rfl rfl)
theorem dX5_like_79 : decode cX5_like 79 = .ok (.getfield 34, 3) := dk_180 0 34 (dk_at dksX5_like_3 11 rfl rfl)
theorem dX5_like_82 : decode cX5_like 82 = .ok (.invokestatic 56, 3) := dk_184 0 56 (dk_at dksX5_like_3 14 rfl rfl)
theorem dX5_like_85 : decode cX5_like 85 = .ok (.aload_n 0, 1) := dk_42 (dk_at dksX5_like_3 17 rfl rfl)
theorem dX5_like_86 : decode cX5_like 86 = .ok (.aload_n 1, 1) := dk_43 (dk_at dksX5_like_3 18 rfl rfl)
theorem dX5_like_87 : decode cX5_like 87 = .ok (.getfield 41, 3) := dk_180 0 41 (dk_at dksX5_like_3 19 rfl rfl)
theorem dX5_like_90 : decode cX5_like 90 = .ok (.putfield 41, 3) := dk_181 0 41 (dk_at dksX5_like_4 0 rfl rfl)
theorem dX5_like_93 : decode cX5_like 93 = .ok (.aload_n 0, 1) := dk_42 (dk_at dksX5_like_4 3 rfl rfl)
theorem dX5_like_94 : decode cX5_like 94 = .ok (.aload_n 1, 1) := dk_43 (dk_at dksX5_like_4 4 rfl rfl)
theorem dX5_like_95 : decode cX5_like 95 = .ok (.getfield 60, 3) := dk_180 0 60 (dk_at dksX5_like_4 5 rfl rfl)
theorem dX5_like_98 : decode cX5_like 98 = .ok (.putfield 60, 3) := dk_181 0 60 (dk_at dksX5_like_4 8 rfl rfl)
theorem dX5_like_101 : decode cX5_like 101 = .ok (.return_, 1) := dk_177 (dk_at dksX5_like_4 11 rfl rfl)
theorem q140 : (Jvm.Cond.initialized "CircuitCells$Book") ∈ lw_all := lw_g (lw_at lw_m1 25 rfl) rfl
theorem q613 : (Jvm.Cond.instantiable "CircuitCells$Book" (7 : Nat)) ∈ lw_all := lw_g (lw_at lw_m3 18 rfl) rfl
theorem q615 : (Jvm.Cond.instanceMethod ({ cls := "CircuitCells$Book", name := "<init>", desc := "()V" } : Jvm.MethodName)) ∈ lw_all := lw_g (lw_at lw_m3 20 rfl) rfl
theorem q616 : (Jvm.Cond.code ({ cls := "CircuitCells$Book", name := "<init>", desc := "()V" } : Jvm.MethodName) prog_2_method_1_code (2 : Nat) (Option.none : Option Jvm.ClassFile.FieldType)) ∈ lw_all := lw_g (lw_at lw_m3 21 rfl) rfl
theorem q617 : (Jvm.Cond.methodLink "CircuitCells$Book" (3 : Nat) ({ cls := "java/lang/Object", name := "<init>", desc := "()V" } : Jvm.MethodName)) ∈ lw_all := lw_g (lw_at lw_m3 22 rfl) rfl
theorem q618 : (Jvm.Cond.classLink "CircuitCells$Book" (9 : Nat) "CircuitCells$State") ∈ lw_all := lw_g (lw_at lw_m3 23 rfl) rfl
theorem q620 : (Jvm.Cond.methodLinkNest "CircuitCells$Book" (11 : Nat) ({ cls := "CircuitCells$State", name := "<init>", desc := "()V" } : Jvm.MethodName) "CircuitCells") ∈ lw_tbl := lw_at lw_m3 25 rfl
theorem q824 : (Jvm.Cond.classLink "CircuitCells$Book" (18 : Nat) "java/util/ArrayList") ∈ lw_all := lw_g (lw_at lw_m3 229 rfl) rfl
theorem q825 : (Jvm.Cond.methodLink "CircuitCells$Book" (20 : Nat) ({ cls := "java/util/ArrayList", name := "<init>", desc := "(I)V" } : Jvm.MethodName)) ∈ lw_all := lw_g (lw_at lw_m3 230 rfl) rfl
theorem q826 : (Jvm.Cond.methodLink "CircuitCells$Book" (37 : Nat) ({ cls := "java/util/ArrayList", name := "add", desc := "(Ljava/lang/Object;)Z" } : Jvm.MethodName)) ∈ lw_all := lw_g (lw_at lw_m3 231 rfl) rfl
theorem q852 : (Jvm.Cond.selects "CircuitCells$Book" ({ cls := "java/lang/Object", name := "getClass", desc := "()Ljava/lang/Class;" } : Jvm.MethodName) ({ cls := "java/lang/Object", name := "getClass", desc := "()Ljava/lang/Class;" } : Jvm.MethodName)) ∈ lw_all := lw_g (lw_at lw_m4 17 rfl) rfl
theorem q891 : (Jvm.Cond.fieldLink "CircuitCells$Book" (12 : Nat) "CircuitCells$Book" "now" "LCircuitCells$State;") ∈ lw_all := lw_g (lw_at lw_m4 56 rfl) rfl
theorem q893 : (Jvm.Cond.fieldLink "CircuitCells$Book" (23 : Nat) "CircuitCells$Book" "ahead" "Ljava/util/ArrayList;") ∈ lw_all := lw_g (lw_at lw_m4 58 rfl) rfl
theorem q895 : (Jvm.Cond.fieldLink "CircuitCells$Book" (27 : Nat) "CircuitCells$Book" "when" "[I") ∈ lw_all := lw_g (lw_at lw_m4 60 rfl) rfl
theorem q897 : (Jvm.Cond.fieldLink "CircuitCells$Book" (31 : Nat) "CircuitCells$Book" "level" "[I") ∈ lw_all := lw_g (lw_at lw_m4 62 rfl) rfl
theorem q899 : (Jvm.Cond.fieldLink "CircuitCells$Book" (34 : Nat) "CircuitCells$Book" "refused" "[I") ∈ lw_all := lw_g (lw_at lw_m4 64 rfl) rfl
theorem q901 : (Jvm.Cond.fieldLink "CircuitCells$Book" (41 : Nat) "CircuitCells$Book" "acts" "I") ∈ lw_all := lw_g (lw_at lw_m4 66 rfl) rfl
theorem q903 : (Jvm.Cond.fieldLink "CircuitCells$Book" (60 : Nat) "CircuitCells$Book" "many" "I") ∈ lw_all := lw_g (lw_at lw_m4 68 rfl) rfl
theorem q905 : (Jvm.Cond.laysFinal "CircuitCells$Book" "CircuitCells$Book" "now" "LCircuitCells$State;") ∈ lw_all := lw_g (lw_at lw_m4 70 rfl) rfl
theorem q906 : (Jvm.Cond.soleField "CircuitCells$Book" "now") ∈ lw_all := lw_g (lw_at lw_m4 71 rfl) rfl
theorem q907 : (Jvm.Cond.laysFinal "CircuitCells$Book" "CircuitCells$Book" "ahead" "Ljava/util/ArrayList;") ∈ lw_all := lw_g (lw_at lw_m4 72 rfl) rfl
theorem q908 : (Jvm.Cond.soleField "CircuitCells$Book" "ahead") ∈ lw_all := lw_g (lw_at lw_m4 73 rfl) rfl
theorem q909 : (Jvm.Cond.laysFinal "CircuitCells$Book" "CircuitCells$Book" "when" "[I") ∈ lw_all := lw_g (lw_at lw_m4 74 rfl) rfl
theorem q910 : (Jvm.Cond.soleField "CircuitCells$Book" "when") ∈ lw_all := lw_g (lw_at lw_m4 75 rfl) rfl
theorem q911 : (Jvm.Cond.laysFinal "CircuitCells$Book" "CircuitCells$Book" "level" "[I") ∈ lw_all := lw_g (lw_at lw_m4 76 rfl) rfl
theorem q912 : (Jvm.Cond.soleField "CircuitCells$Book" "level") ∈ lw_all := lw_g (lw_at lw_m4 77 rfl) rfl
theorem q913 : (Jvm.Cond.laysFinal "CircuitCells$Book" "CircuitCells$Book" "refused" "[I") ∈ lw_all := lw_g (lw_at lw_m4 78 rfl) rfl
theorem q914 : (Jvm.Cond.soleField "CircuitCells$Book" "refused") ∈ lw_all := lw_g (lw_at lw_m4 79 rfl) rfl
theorem q915 : (Jvm.Cond.lays "CircuitCells$Book" "CircuitCells$Book" "acts" "I") ∈ lw_all := lw_g (lw_at lw_m4 80 rfl) rfl
theorem q916 : (Jvm.Cond.soleField "CircuitCells$Book" "acts") ∈ lw_all := lw_g (lw_at lw_m4 81 rfl) rfl
theorem q917 : (Jvm.Cond.lays "CircuitCells$Book" "CircuitCells$Book" "many" "I") ∈ lw_all := lw_g (lw_at lw_m4 82 rfl) rfl
theorem q918 : (Jvm.Cond.soleField "CircuitCells$Book" "many") ∈ lw_all := lw_g (lw_at lw_m4 83 rfl) rfl
theorem q919 : (Jvm.Cond.superclass "CircuitCells$Book" "java/lang/Object") ∈ lw_all := lw_g (lw_at lw_m4 84 rfl) rfl
theorem q1093 : (Jvm.Cond.instanceMethod ({ cls := "CircuitCells$Book", name := "keeps", desc := "()V" } : Jvm.MethodName)) ∈ lw_all := lw_g (lw_at lw_m5 18 rfl) rfl
theorem q1094 : (Jvm.Cond.selects "CircuitCells$Book" ({ cls := "CircuitCells$Book", name := "keeps", desc := "()V" } : Jvm.MethodName) ({ cls := "CircuitCells$Book", name := "keeps", desc := "()V" } : Jvm.MethodName)) ∈ lw_all := lw_g (lw_at lw_m5 19 rfl) rfl
theorem q1095 : (Jvm.Cond.code ({ cls := "CircuitCells$Book", name := "keeps", desc := "()V" } : Jvm.MethodName) prog_2_method_2_code (1 : Nat) (Option.none : Option Jvm.ClassFile.FieldType)) ∈ lw_all := lw_g (lw_at lw_m5 20 rfl) rfl
theorem q1096 : (Jvm.Cond.methodLink "CircuitCells$Book" (45 : Nat) ({ cls := "java/util/ArrayList", name := "remove", desc := "(I)Ljava/lang/Object;" } : Jvm.MethodName)) ∈ lw_all := lw_g (lw_at lw_m5 21 rfl) rfl
theorem q1111 : (Jvm.Cond.methodLink "CircuitCells$Book" (49 : Nat) ({ cls := "java/util/ArrayList", name := "get", desc := "(I)Ljava/lang/Object;" } : Jvm.MethodName)) ∈ lw_all := lw_g (lw_at lw_m5 36 rfl) rfl
theorem q1119 : (Jvm.Cond.methodLink "CircuitCells$Book" (52 : Nat) ({ cls := "CircuitCells$State", name := "like", desc := "(LCircuitCells$State;)V" } : Jvm.MethodName)) ∈ lw_all := lw_g (lw_at lw_m5 44 rfl) rfl
theorem q1343 : (Jvm.Cond.instanceMethod ({ cls := "CircuitCells$Book", name := "like", desc := "(LCircuitCells$Book;)V" } : Jvm.MethodName)) ∈ lw_all := lw_g (lw_at lw_m6 28 rfl) rfl
theorem q1344 : (Jvm.Cond.selects "CircuitCells$Book" ({ cls := "CircuitCells$Book", name := "like", desc := "(LCircuitCells$Book;)V" } : Jvm.MethodName) ({ cls := "CircuitCells$Book", name := "like", desc := "(LCircuitCells$Book;)V" } : Jvm.MethodName)) ∈ lw_all := lw_g (lw_at lw_m6 29 rfl) rfl
theorem q1345 : (Jvm.Cond.code ({ cls := "CircuitCells$Book", name := "like", desc := "(LCircuitCells$Book;)V" } : Jvm.MethodName) prog_2_method_3_code (3 : Nat) (Option.none : Option Jvm.ClassFile.FieldType)) ∈ lw_all := lw_g (lw_at lw_m6 30 rfl) rfl
theorem q1346 : (Jvm.Cond.methodLinkNest "CircuitCells$Book" (56 : Nat) ({ cls := "CircuitCells$State", name := "copies", desc := "([I[I)V" } : Jvm.MethodName) "CircuitCells") ∈ lw_tbl := lw_at lw_m6 31 rfl
theorem q2972 : (Jvm.Cond.castable "CircuitCells$Book" "java/lang/Object") ∈ lw_tbl := lw_at lw_m12 217 rfl

theorem q1279 : (Jvm.Cond.interfaceMethod "CircuitCells$Fill" "CircuitCells$Fill" "of" "(LCircuitCells$State;)I") ∈ lw_tbl := lw_at lw_m5 204 rfl
set_option maxRecDepth 100000
theorem q1280 : (Jvm.Cond.declares ({ cls := "CircuitCells$Fill", name := "of", desc := "(LCircuitCells$State;)I" } : Jvm.MethodName)) ∈ lw_tbl := lw_at lw_m5 205 rfl
theorem q2263 : (Jvm.Cond.interfaceMethod "CircuitCells$Look" "CircuitCells$Look" "at" "(LCircuitCells$State;)I") ∈ lw_tbl := lw_at lw_m9 228 rfl
set_option maxRecDepth 100000
theorem q2264 : (Jvm.Cond.declares ({ cls := "CircuitCells$Look", name := "at", desc := "(LCircuitCells$State;)I" } : Jvm.MethodName)) ∈ lw_tbl := lw_at lw_m9 229 rfl
theorem q2282 : (Jvm.Cond.interfaceMethod "CircuitCells$Wait" "CircuitCells$Wait" "is" "(LCircuitCells$State;I)Z") ∈ lw_tbl := lw_at lw_m10 7 rfl
set_option maxRecDepth 100000
theorem q2283 : (Jvm.Cond.declares ({ cls := "CircuitCells$Wait", name := "is", desc := "(LCircuitCells$State;I)Z" } : Jvm.MethodName)) ∈ lw_tbl := lw_at lw_m10 8 rfl
