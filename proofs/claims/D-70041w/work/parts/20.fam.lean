set_option maxRecDepth 100000
def dkwJ7_bitCount_2 : List UInt8 := [26, 16, 63, 126, 172]
abbrev dktJ7_bitCount_2 : List UInt8 := dkwJ7_bitCount_2 ++ []
def dkwJ7_bitCount_1 : List UInt8 := [26, 26, 7, 124, 96, 19, 1, 11, 126, 59, 26, 26, 16, 8, 124, 96, 59, 26, 26, 16, 16, 124, 96, 59]
abbrev dktJ7_bitCount_1 : List UInt8 := dkwJ7_bitCount_1 ++ dktJ7_bitCount_2
def dkwJ7_bitCount_0 : List UInt8 := [26, 26, 4, 124, 19, 1, 9, 126, 100, 59, 26, 19, 1, 10, 126, 26, 5, 124, 19, 1, 10, 126, 96, 59]
abbrev dktJ7_bitCount_0 : List UInt8 := dkwJ7_bitCount_0 ++ dktJ7_bitCount_1
theorem dksJ7_bitCount_0 : cJ7_bitCount.data.toList.drop 0 = dktJ7_bitCount_0 := by decide +kernel
theorem dksJ7_bitCount_1 : cJ7_bitCount.data.toList.drop 24 = dktJ7_bitCount_1 := dk_seg dksJ7_bitCount_0 24 rfl rfl
theorem dksJ7_bitCount_2 : cJ7_bitCount.data.toList.drop 48 = dktJ7_bitCount_2 := dk_seg dksJ7_bitCount_1 24 rfl rfl
theorem dJ7_bitCount_0 : decode cJ7_bitCount 0 = .ok (.iload_n 0, 1) := dk_26 (dk_at dksJ7_bitCount_0 0 rfl rfl)
theorem dJ7_bitCount_1 : decode cJ7_bitCount 1 = .ok (.iload_n 0, 1) := dk_26 (dk_at dksJ7_bitCount_0 1 rfl rfl)
theorem dJ7_bitCount_2 : decode cJ7_bitCount 2 = .ok (.iconst 1, 1) := dk_4 (dk_at dksJ7_bitCount_0 2 rfl rfl)
theorem dJ7_bitCount_3 : decode cJ7_bitCount 3 = .ok (.iushr, 1) := dk_124 (dk_at dksJ7_bitCount_0 3 rfl rfl)
theorem dJ7_bitCount_4 : decode cJ7_bitCount 4 = .ok (.ldc_w 265, 3) := dk_19 1 9 (dk_at dksJ7_bitCount_0 4 rfl rfl)
theorem dJ7_bitCount_7 : decode cJ7_bitCount 7 = .ok (.iand, 1) := dk_126 (dk_at dksJ7_bitCount_0 7 rfl rfl)
theorem dJ7_bitCount_8 : decode cJ7_bitCount 8 = .ok (.isub, 1) := dk_100 (dk_at dksJ7_bitCount_0 8 rfl rfl)
theorem dJ7_bitCount_9 : decode cJ7_bitCount 9 = .ok (.istore_n 0, 1) := dk_59 (dk_at dksJ7_bitCount_0 9 rfl rfl)
theorem dJ7_bitCount_10 : decode cJ7_bitCount 10 = .ok (.iload_n 0, 1) := dk_26 (dk_at dksJ7_bitCount_0 10 rfl rfl)
theorem dJ7_bitCount_11 : decode cJ7_bitCount 11 = .ok (.ldc_w 266, 3) := dk_19 1 10 (dk_at dksJ7_bitCount_0 11 rfl rfl)
theorem dJ7_bitCount_14 : decode cJ7_bitCount 14 = .ok (.iand, 1) := dk_126 (dk_at dksJ7_bitCount_0 14 rfl rfl)
theorem dJ7_bitCount_15 : decode cJ7_bitCount 15 = .ok (.iload_n 0, 1) := dk_26 (dk_at dksJ7_bitCount_0 15 rfl rfl)
theorem dJ7_bitCount_16 : decode cJ7_bitCount 16 = .ok (.iconst 2, 1) := dk_5 (dk_at dksJ7_bitCount_0 16 rfl rfl)
theorem dJ7_bitCount_17 : decode cJ7_bitCount 17 = .ok (.iushr, 1) := dk_124 (dk_at dksJ7_bitCount_0 17 rfl rfl)
theorem dJ7_bitCount_18 : decode cJ7_bitCount 18 = .ok (.ldc_w 266, 3) := dk_19 1 10 (dk_at dksJ7_bitCount_0 18 rfl rfl)
theorem dJ7_bitCount_21 : decode cJ7_bitCount 21 = .ok (.iand, 1) := dk_126 (dk_at dksJ7_bitCount_0 21 rfl rfl)
theorem dJ7_bitCount_22 : decode cJ7_bitCount 22 = .ok (.iadd, 1) := dk_96 (dk_at dksJ7_bitCount_0 22 rfl rfl)
theorem dJ7_bitCount_23 : decode cJ7_bitCount 23 = .ok (.istore_n 0, 1) := dk_59 (dk_at dksJ7_bitCount_0 23 rfl rfl)
theorem dJ7_bitCount_24 : decode cJ7_bitCount 24 = .ok (.iload_n 0, 1) := dk_26 (dk_at dksJ7_bitCount_1 0 rfl rfl)
theorem dJ7_bitCount_25 : decode cJ7_bitCount 25 = .ok (.iload_n 0, 1) := dk_26 (dk_at dksJ7_bitCount_1 1 rfl rfl)
theorem dJ7_bitCount_26 : decode cJ7_bitCount 26 = .ok (.iconst 4, 1) := dk_7 (dk_at dksJ7_bitCount_1 2 rfl rfl)
theorem dJ7_bitCount_27 : decode cJ7_bitCount 27 = .ok (.iushr, 1) := dk_124 (dk_at dksJ7_bitCount_1 3 rfl rfl)
theorem dJ7_bitCount_28 : decode cJ7_bitCount 28 = .ok (.iadd, 1) := dk_96 (dk_at dksJ7_bitCount_1 4 rfl rfl)
theorem dJ7_bitCount_29 : decode cJ7_bitCount 29 = .ok (.ldc_w 267, 3) := dk_19 1 11 (dk_at dksJ7_bitCount_1 5 rfl rfl)
theorem dJ7_bitCount_32 : decode cJ7_bitCount 32 = .ok (.iand, 1) := dk_126 (dk_at dksJ7_bitCount_1 8 rfl rfl)
theorem dJ7_bitCount_33 : decode cJ7_bitCount 33 = .ok (.istore_n 0, 1) := dk_59 (dk_at dksJ7_bitCount_1 9 rfl rfl)
theorem dJ7_bitCount_34 : decode cJ7_bitCount 34 = .ok (.iload_n 0, 1) := dk_26 (dk_at dksJ7_bitCount_1 10 rfl rfl)
theorem dJ7_bitCount_35 : decode cJ7_bitCount 35 = .ok (.iload_n 0, 1) := dk_26 (dk_at dksJ7_bitCount_1 11 rfl rfl)
theorem dJ7_bitCount_36 : decode cJ7_bitCount 36 = .ok (.bipush 8, 2) := dk_16 8 (dk_at dksJ7_bitCount_1 12 rfl rfl)
theorem dJ7_bitCount_38 : decode cJ7_bitCount 38 = .ok (.iushr, 1) := dk_124 (dk_at dksJ7_bitCount_1 14 rfl rfl)
theorem dJ7_bitCount_39 : decode cJ7_bitCount 39 = .ok (.iadd, 1) := dk_96 (dk_at dksJ7_bitCount_1 15 rfl rfl)
theorem dJ7_bitCount_40 : decode cJ7_bitCount 40 = .ok (.istore_n 0, 1) := dk_59 (dk_at dksJ7_bitCount_1 16 rfl rfl)
theorem dJ7_bitCount_41 : decode cJ7_bitCount 41 = .ok (.iload_n 0, 1) := dk_26 (dk_at dksJ7_bitCount_1 17 rfl rfl)
theorem dJ7_bitCount_42 : decode cJ7_bitCount 42 = .ok (.iload_n 0, 1) := dk_26 (dk_at dksJ7_bitCount_1 18 rfl rfl)
theorem dJ7_bitCount_43 : decode cJ7_bitCount 43 = .ok (.bipush 16, 2) := dk_16 16 (dk_at dksJ7_bitCount_1 19 rfl rfl)
theorem dJ7_bitCount_45 : decode cJ7_bitCount 45 = .ok (.iushr, 1) := dk_124 (dk_at dksJ7_bitCount_1 21 rfl rfl)
theorem dJ7_bitCount_46 : decode cJ7_bitCount 46 = .ok (.iadd, 1) := dk_96 (dk_at dksJ7_bitCount_1 22 rfl rfl)
theorem dJ7_bitCount_47 : decode cJ7_bitCount 47 = .ok (.istore_n 0, 1) := dk_59 (dk_at dksJ7_bitCount_1 23 rfl rfl)
theorem dJ7_bitCount_48 : decode cJ7_bitCount 48 = .ok (.iload_n 0, 1) := dk_26 (dk_at dksJ7_bitCount_2 0 rfl rfl)
theorem dJ7_bitCount_49 : decode cJ7_bitCount 49 = .ok (.bipush 63, 2) := dk_16 63 (dk_at dksJ7_bitCount_2 1 rfl rfl)
theorem dJ7_bitCount_51 : decode cJ7_bitCount 51 = .ok (.iand, 1) := dk_126 (dk_at dksJ7_bitCount_2 3 rfl rfl)
theorem dJ7_bitCount_52 : decode cJ7_bitCount 52 = .ok (.ireturn, 1) := dk_172 (dk_at dksJ7_bitCount_2 4 rfl rfl)
theorem dX1_init_0 : decode cX1_init 0 = .ok (.aload_n 0, 1) := by decide +kernel
theorem dX1_init_1 : decode cX1_init 1 = .ok (.invokespecial 3, 3) := by decide +kernel
theorem dX1_init_4 : decode cX1_init 4 = .ok (.return_, 1) := by decide +kernel
def dkwX1_waits_0 : List UInt8 := [27, 4, 160, 0, 7, 4, 167, 0, 17, 27, 6, 162, 0, 7, 3, 167, 0, 8, 5, 27, 104, 6, 100, 172]
abbrev dktX1_waits_0 : List UInt8 := dkwX1_waits_0 ++ []
theorem dksX1_waits_0 : cX1_waits.data.toList.drop 0 = dktX1_waits_0 := by decide +kernel
theorem dX1_waits_0 : decode cX1_waits 0 = .ok (.iload_n 1, 1) := dk_27 (dk_at dksX1_waits_0 0 rfl rfl)
theorem dX1_waits_1 : decode cX1_waits 1 = .ok (.iconst 1, 1) := dk_4 (dk_at dksX1_waits_0 1 rfl rfl)
theorem dX1_waits_2 : decode cX1_waits 2 = .ok (.if_icmp .ne 7, 3) := dk_160 0 7 (dk_at dksX1_waits_0 2 rfl rfl)
theorem dX1_waits_5 : decode cX1_waits 5 = .ok (.iconst 1, 1) := dk_4 (dk_at dksX1_waits_0 5 rfl rfl)
theorem dX1_waits_6 : decode cX1_waits 6 = .ok (.goto 17, 3) := dk_167 0 17 (dk_at dksX1_waits_0 6 rfl rfl)
theorem dX1_waits_9 : decode cX1_waits 9 = .ok (.iload_n 1, 1) := dk_27 (dk_at dksX1_waits_0 9 rfl rfl)
theorem dX1_waits_10 : decode cX1_waits 10 = .ok (.iconst 3, 1) := dk_6 (dk_at dksX1_waits_0 10 rfl rfl)
theorem dX1_waits_11 : decode cX1_waits 11 = .ok (.if_icmp .ge 7, 3) := dk_162 0 7 (dk_at dksX1_waits_0 11 rfl rfl)
theorem dX1_waits_14 : decode cX1_waits 14 = .ok (.iconst 0, 1) := dk_3 (dk_at dksX1_waits_0 14 rfl rfl)
theorem dX1_waits_15 : decode cX1_waits 15 = .ok (.goto 8, 3) := dk_167 0 8 (dk_at dksX1_waits_0 15 rfl rfl)
theorem dX1_waits_18 : decode cX1_waits 18 = .ok (.iconst 2, 1) := dk_5 (dk_at dksX1_waits_0 18 rfl rfl)
theorem dX1_waits_19 : decode cX1_waits 19 = .ok (.iload_n 1, 1) := dk_27 (dk_at dksX1_waits_0 19 rfl rfl)
theorem dX1_waits_20 : decode cX1_waits 20 = .ok (.imul, 1) := dk_104 (dk_at dksX1_waits_0 20 rfl rfl)
theorem dX1_waits_21 : decode cX1_waits 21 = .ok (.iconst 3, 1) := dk_6 (dk_at dksX1_waits_0 21 rfl rfl)
theorem dX1_waits_22 : decode cX1_waits 22 = .ok (.isub, 1) := dk_100 (dk_at dksX1_waits_0 22 rfl rfl)
theorem dX1_waits_23 : decode cX1_waits 23 = .ok (.ireturn, 1) := dk_172 (dk_at dksX1_waits_0 23 rfl rfl)
theorem dX2_init_0 : decode cX2_init 0 = .ok (.aload_n 0, 1) := by decide +kernel
theorem dX2_init_1 : decode cX2_init 1 = .ok (.invokespecial 1, 3) := by decide +kernel
theorem dX2_init_4 : decode cX2_init 4 = .ok (.return_, 1) := by decide +kernel
def dkwX2_waits_0 : List UInt8 := [42, 27, 183, 0, 7, 5, 108, 172]
abbrev dktX2_waits_0 : List UInt8 := dkwX2_waits_0 ++ []
theorem dksX2_waits_0 : cX2_waits.data.toList.drop 0 = dktX2_waits_0 := by decide +kernel
theorem dX2_waits_0 : decode cX2_waits 0 = .ok (.aload_n 0, 1) := dk_42 (dk_at dksX2_waits_0 0 rfl rfl)
theorem dX2_waits_1 : decode cX2_waits 1 = .ok (.iload_n 1, 1) := dk_27 (dk_at dksX2_waits_0 1 rfl rfl)
theorem dX2_waits_2 : decode cX2_waits 2 = .ok (.invokespecial 7, 3) := dk_183 0 7 (dk_at dksX2_waits_0 2 rfl rfl)
theorem dX2_waits_5 : decode cX2_waits 5 = .ok (.iconst 2, 1) := dk_5 (dk_at dksX2_waits_0 5 rfl rfl)
theorem dX2_waits_6 : decode cX2_waits 6 = .ok (.idiv, 1) := dk_108 (dk_at dksX2_waits_0 6 rfl rfl)
theorem dX2_waits_7 : decode cX2_waits 7 = .ok (.ireturn, 1) := dk_172 (dk_at dksX2_waits_0 7 rfl rfl)
theorem dX3_init_0 : decode cX3_init 0 = .ok (.aload_n 0, 1) := by decide +kernel
theorem dX3_init_1 : decode cX3_init 1 = .ok (.invokespecial 1, 3) := by decide +kernel
theorem dX3_init_4 : decode cX3_init 4 = .ok (.return_, 1) := by decide +kernel
def dkwX3_waits_0 : List UInt8 := [27, 154, 0, 7, 3, 167, 0, 10, 42, 27, 183, 0, 7, 4, 96, 172]
abbrev dktX3_waits_0 : List UInt8 := dkwX3_waits_0 ++ []
theorem dksX3_waits_0 : cX3_waits.data.toList.drop 0 = dktX3_waits_0 := by decide +kernel
theorem dX3_waits_0 : decode cX3_waits 0 = .ok (.iload_n 1, 1) := dk_27 (dk_at dksX3_waits_0 0 rfl rfl)
theorem dX3_waits_1 : decode cX3_waits 1 = .ok (.ifCond .ne 7, 3) := dk_154 0 7 (dk_at dksX3_waits_0 1 rfl rfl)
theorem dX3_waits_4 : decode cX3_waits 4 = .ok (.iconst 0, 1) := dk_3 (dk_at dksX3_waits_0 4 rfl rfl)
theorem dX3_waits_5 : decode cX3_waits 5 = .ok (.goto 10, 3) := dk_167 0 10 (dk_at dksX3_waits_0 5 rfl rfl)
theorem dX3_waits_8 : decode cX3_waits 8 = .ok (.aload_n 0, 1) := dk_42 (dk_at dksX3_waits_0 8 rfl rfl)
theorem dX3_waits_9 : decode cX3_waits 9 = .ok (.iload_n 1, 1) := dk_27 (dk_at dksX3_waits_0 9 rfl rfl)
theorem dX3_waits_10 : decode cX3_waits 10 = .ok (.invokespecial 7, 3) := dk_183 0 7 (dk_at dksX3_waits_0 10 rfl rfl)
theorem dX3_waits_13 : decode cX3_waits 13 = .ok (.iconst 1, 1) := dk_4 (dk_at dksX3_waits_0 13 rfl rfl)
theorem dX3_waits_14 : decode cX3_waits 14 = .ok (.iadd, 1) := dk_96 (dk_at dksX3_waits_0 14 rfl rfl)
theorem dX3_waits_15 : decode cX3_waits 15 = .ok (.ireturn, 1) := dk_172 (dk_at dksX3_waits_0 15 rfl rfl)
theorem dX4_init_0 : decode cX4_init 0 = .ok (.aload_n 0, 1) := by decide +kernel
theorem dX4_init_1 : decode cX4_init 1 = .ok (.invokespecial 3, 3) := by decide +kernel
theorem dX4_init_4 : decode cX4_init 4 = .ok (.return_, 1) := by decide +kernel
def dkwX4_waits_1 : List UInt8 := [3, 42, 27, 183, 0, 9, 4, 100, 184, 0, 13, 172]
abbrev dktX4_waits_1 : List UInt8 := dkwX4_waits_1 ++ []
def dkwX4_waits_0 : List UInt8 := [27, 4, 160, 0, 7, 3, 167, 0, 29, 27, 5, 160, 0, 13, 42, 27, 183, 0, 9, 4, 96, 167, 0, 14]
abbrev dktX4_waits_0 : List UInt8 := dkwX4_waits_0 ++ dktX4_waits_1
theorem dksX4_waits_0 : cX4_waits.data.toList.drop 0 = dktX4_waits_0 := by decide +kernel
theorem dksX4_waits_1 : cX4_waits.data.toList.drop 24 = dktX4_waits_1 := dk_seg dksX4_waits_0 24 rfl rfl
theorem dX4_waits_0 : decode cX4_waits 0 = .ok (.iload_n 1, 1) := dk_27 (dk_at dksX4_waits_0 0 rfl rfl)
theorem dX4_waits_1 : decode cX4_waits 1 = .ok (.iconst 1, 1) := dk_4 (dk_at dksX4_waits_0 1 rfl rfl)
theorem dX4_waits_2 : decode cX4_waits 2 = .ok (.if_icmp .ne 7, 3) := dk_160 0 7 (dk_at dksX4_waits_0 2 rfl rfl)
theorem dX4_waits_5 : decode cX4_waits 5 = .ok (.iconst 0, 1) := dk_3 (dk_at dksX4_waits_0 5 rfl rfl)
theorem dX4_waits_6 : decode cX4_waits 6 = .ok (.goto 29, 3) := dk_167 0 29 (dk_at dksX4_waits_0 6 rfl rfl)
theorem dX4_waits_9 : decode cX4_waits 9 = .ok (.iload_n 1, 1) := dk_27 (dk_at dksX4_waits_0 9 rfl rfl)
theorem dX4_waits_10 : decode cX4_waits 10 = .ok (.iconst 2, 1) := dk_5 (dk_at dksX4_waits_0 10 rfl rfl)
theorem dX4_waits_11 : decode cX4_waits 11 = .ok (.if_icmp .ne 13, 3) := dk_160 0 13 (dk_at dksX4_waits_0 11 rfl rfl)
theorem dX4_waits_14 : decode cX4_waits 14 = .ok (.aload_n 0, 1) := dk_42 (dk_at dksX4_waits_0 14 rfl rfl)
theorem dX4_waits_15 : decode cX4_waits 15 = .ok (.iload_n 1, 1) := dk_27 (dk_at dksX4_waits_0 15 rfl rfl)
theorem dX4_waits_16 : decode cX4_waits 16 = .ok (.invokespecial 9, 3) := dk_183 0 9 (dk_at dksX4_waits_0 16 rfl rfl)
theorem dX4_waits_19 : decode cX4_waits 19 = .ok (.iconst 1, 1) := dk_4 (dk_at dksX4_waits_0 19 rfl rfl)
theorem dX4_waits_20 : decode cX4_waits 20 = .ok (.iadd, 1) := dk_96 (dk_at dksX4_waits_0 20 rfl rfl)
theorem dX4_waits_21 : decode cX4_waits 21 = .ok (.goto 14, 3) := dk_167 0 14 (dk_at dksX4_waits_0 21 rfl rfl)
theorem dX4_waits_24 : decode cX4_waits 24 = .ok (.iconst 0, 1) := dk_3 (dk_at dksX4_waits_1 0 rfl rfl)
theorem dX4_waits_25 : decode cX4_waits 25 = .ok (.aload_n 0, 1) := dk_42 (dk_at dksX4_waits_1 1 rfl rfl)
theorem dX4_waits_26 : decode cX4_waits 26 = .ok (.iload_n 1, 1) := dk_27 (dk_at dksX4_waits_1 2 rfl rfl)
theorem dX4_waits_27 : decode cX4_waits 27 = .ok (.invokespecial 9, 3) := dk_183 0 9 (dk_at dksX4_waits_1 3 rfl rfl)
theorem dX4_waits_30 : decode cX4_waits 30 = .ok (.iconst 1, 1) := dk_4 (dk_at dksX4_waits_1 6 rfl rfl)
theorem dX4_waits_31 : decode cX4_waits 31 = .ok (.isub, 1) := dk_100 (dk_at dksX4_waits_1 7 rfl rfl)
theorem dX4_waits_32 : decode cX4_waits 32 = .ok (.invokestatic 13, 3) := dk_184 0 13 (dk_at dksX4_waits_1 8 rfl rfl)
theorem dX4_waits_35 : decode cX4_waits 35 = .ok (.ireturn, 1) := dk_172 (dk_at dksX4_waits_1 11 rfl rfl)
def dkwX5_init_1 : List UInt8 := [181, 0, 19, 177]
abbrev dktX5_init_1 : List UInt8 := dkwX5_init_1 ++ []
def dkwX5_init_0 : List UInt8 := [42, 183, 0, 3, 42, 7, 181, 0, 9, 42, 16, 8, 188, 8, 181, 0, 15, 42, 16, 16, 188, 8]
abbrev dktX5_init_0 : List UInt8 := dkwX5_init_0 ++ dktX5_init_1
theorem dksX5_init_0 : cX5_init.data.toList.drop 0 = dktX5_init_0 := by decide +kernel
theorem dksX5_init_1 : cX5_init.data.toList.drop 22 = dktX5_init_1 := dk_seg dksX5_init_0 22 rfl rfl
theorem dX5_init_0 : decode cX5_init 0 = .ok (.aload_n 0, 1) := dk_42 (dk_at dksX5_init_0 0 rfl rfl)
theorem dX5_init_1 : decode cX5_init 1 = .ok (.invokespecial 3, 3) := dk_183 0 3 (dk_at dksX5_init_0 1 rfl rfl)
theorem dX5_init_4 : decode cX5_init 4 = .ok (.aload_n 0, 1) := dk_42 (dk_at dksX5_init_0 4 rfl rfl)
theorem dX5_init_5 : decode cX5_init 5 = .ok (.iconst 4, 1) := dk_7 (dk_at dksX5_init_0 5 rfl rfl)
theorem dX5_init_6 : decode cX5_init 6 = .ok (.putfield 9, 3) := dk_181 0 9 (dk_at dksX5_init_0 6 rfl rfl)
theorem dX5_init_9 : decode cX5_init 9 = .ok (.aload_n 0, 1) := dk_42 (dk_at dksX5_init_0 9 rfl rfl)
theorem dX5_init_10 : decode cX5_init 10 = .ok (.bipush 8, 2) := dk_16 8 (dk_at dksX5_init_0 10 rfl rfl)
theorem dX5_init_12 : decode cX5_init 12 = .ok (.newarray .byte, 2) := dk_188_8 (dk_at dksX5_init_0 12 rfl rfl)
theorem dX5_init_14 : decode cX5_init 14 = .ok (.putfield 15, 3) := dk_181 0 15 (dk_at dksX5_init_0 14 rfl rfl)
theorem dX5_init_17 : decode cX5_init 17 = .ok (.aload_n 0, 1) := dk_42 (dk_at dksX5_init_0 17 rfl rfl)
theorem dX5_init_18 : decode cX5_init 18 = .ok (.bipush 16, 2) := dk_16 16 (dk_at dksX5_init_0 18 rfl rfl)
theorem dX5_init_20 : decode cX5_init 20 = .ok (.newarray .byte, 2) := dk_188_8 (dk_at dksX5_init_0 20 rfl rfl)
theorem dX5_init_22 : decode cX5_init 22 = .ok (.putfield 19, 3) := dk_181 0 19 (dk_at dksX5_init_1 0 rfl rfl)
theorem dX5_init_25 : decode cX5_init 25 = .ok (.return_, 1) := dk_177 (dk_at dksX5_init_1 3 rfl rfl)
def dkwX5_as_2 : List UInt8 := [3, 16, 16, 184, 0, 22, 177]
abbrev dktX5_as_2 : List UInt8 := dkwX5_as_2 ++ []
def dkwX5_as_1 : List UInt8 := [43, 180, 0, 28, 181, 0, 28, 42, 43, 180, 0, 31, 181, 0, 31, 43, 180, 0, 19, 3, 42, 180, 0, 19]
abbrev dktX5_as_1 : List UInt8 := dkwX5_as_1 ++ dktX5_as_2
def dkwX5_as_0 : List UInt8 := [42, 43, 180, 0, 9, 181, 0, 9, 43, 180, 0, 15, 3, 42, 180, 0, 15, 3, 16, 8, 184, 0, 22, 42]
abbrev dktX5_as_0 : List UInt8 := dkwX5_as_0 ++ dktX5_as_1
theorem dksX5_as_0 : cX5_as.data.toList.drop 0 = dktX5_as_0 := by decide +kernel
theorem dksX5_as_1 : cX5_as.data.toList.drop 24 = dktX5_as_1 := dk_seg dksX5_as_0 24 rfl rfl
theorem dksX5_as_2 : cX5_as.data.toList.drop 48 = dktX5_as_2 := dk_seg dksX5_as_1 24 rfl rfl
theorem dX5_as_0 : decode cX5_as 0 = .ok (.aload_n 0, 1) := dk_42 (dk_at dksX5_as_0 0 rfl rfl)
theorem dX5_as_1 : decode cX5_as 1 = .ok (.aload_n 1, 1) := dk_43 (dk_at dksX5_as_0 1 rfl rfl)
theorem dX5_as_2 : decode cX5_as 2 = .ok (.getfield 9, 3) := dk_180 0 9 (dk_at dksX5_as_0 2 rfl rfl)
theorem dX5_as_5 : decode cX5_as 5 = .ok (.putfield 9, 3) := dk_181 0 9 (dk_at dksX5_as_0 5 rfl rfl)
theorem dX5_as_8 : decode cX5_as 8 = .ok (.aload_n 1, 1) := dk_43 (dk_at dksX5_as_0 8 rfl rfl)
theorem dX5_as_9 : decode cX5_as 9 = .ok (.getfield 15, 3) := dk_180 0 15 (dk_at dksX5_as_0 9 rfl rfl)
theorem dX5_as_12 : decode cX5_as 12 = .ok (.iconst 0, 1) := dk_3 (dk_at dksX5_as_0 12 rfl rfl)
theorem dX5_as_13 : decode cX5_as 13 = .ok (.aload_n 0, 1) := dk_42 (dk_at dksX5_as_0 13 rfl rfl)
theorem dX5_as_14 : decode cX5_as 14 = .ok (.getfield 15, 3) := dk_180 0 15 (dk_at dksX5_as_0 14 rfl rfl)
theorem dX5_as_17 : decode cX5_as 17 = .ok (.iconst 0, 1) := dk_3 (dk_at dksX5_as_0 17 rfl rfl)
theorem dX5_as_18 : decode cX5_as 18 = .ok (.bipush 8, 2) := dk_16 8 (dk_at dksX5_as_0 18 rfl rfl)
theorem dX5_as_20 : decode cX5_as 20 = .ok (.invokestatic 22, 3) := dk_184 0 22 (dk_at dksX5_as_0 20 rfl rfl)
theorem dX5_as_23 : decode cX5_as 23 = .ok (.aload_n 0, 1) := dk_42 (dk_at dksX5_as_0 23 rfl rfl)
theorem dX5_as_24 : decode cX5_as 24 = .ok (.aload_n 1, 1) := dk_43 (dk_at dksX5_as_1 0 rfl rfl)
theorem dX5_as_25 : decode cX5_as 25 = .ok (.getfield 28, 3) := dk_180 0 28 (dk_at dksX5_as_1 1 rfl rfl)
theorem dX5_as_28 : decode cX5_as 28 = .ok (.putfield 28, 3) := dk_181 0 28 (dk_at dksX5_as_1 4 rfl rfl)
theorem dX5_as_31 : decode cX5_as 31 = .ok (.aload_n 0, 1) := dk_42 (dk_at dksX5_as_1 7 rfl rfl)
theorem dX5_as_32 : decode cX5_as 32 = .ok (.aload_n 1, 1) := dk_43 (dk_at dksX5_as_1 8 rfl rfl)
theorem dX5_as_33 : decode cX5_as 33 = .ok (.getfield 31, 3) := dk_180 0 31 (dk_at dksX5_as_1 9 rfl rfl)
theorem dX5_as_36 : decode cX5_as 36 = .ok (.putfield 31, 3) := dk_181 0 31 (dk_at dksX5_as_1 12 rfl rfl)
theorem dX5_as_39 : decode cX5_as 39 = .ok (.aload_n 1, 1) := dk_43 (dk_at dksX5_as_1 15 rfl rfl)
theorem dX5_as_40 : decode cX5_as 40 = .ok (.getfield 19, 3) := dk_180 0 19 (dk_at dksX5_as_1 16 rfl rfl)
theorem dX5_as_43 : decode cX5_as 43 = .ok (.iconst 0, 1) := dk_3 (dk_at dksX5_as_1 19 rfl rfl)
theorem dX5_as_44 : decode cX5_as 44 = .ok (.aload_n 0, 1) := dk_42 (dk_at dksX5_as_1 20 rfl rfl)
theorem dX5_as_45 : decode cX5_as 45 = .ok (.getfield 19, 3) := dk_180 0 19 (dk_at dksX5_as_1 21 rfl rfl)
theorem dX5_as_48 : decode cX5_as 48 = .ok (.iconst 0, 1) := dk_3 (dk_at dksX5_as_2 0 rfl rfl)
theorem dX5_as_49 : decode cX5_as 49 = .ok (.bipush 16, 2) := dk_16 16 (dk_at dksX5_as_2 1 rfl rfl)
theorem dX5_as_51 : decode cX5_as 51 = .ok (.invokestatic 22, 3) := dk_184 0 22 (dk_at dksX5_as_2 3 rfl rfl)
theorem dX5_as_54 : decode cX5_as 54 = .ok (.return_, 1) := dk_177 (dk_at dksX5_as_2 6 rfl rfl)
def dkwX5_hung_1 : List UInt8 := [167, 0, 6, 4, 28, 120, 128, 60, 132, 2, 1, 167, 255, 226, 27, 172]
abbrev dktX5_hung_1 : List UInt8 := dkwX5_hung_1 ++ []
def dkwX5_hung_0 : List UInt8 := [3, 60, 3, 61, 28, 42, 180, 0, 9, 162, 0, 28, 27, 42, 180, 0, 15, 28, 51, 154, 0, 7, 3]
abbrev dktX5_hung_0 : List UInt8 := dkwX5_hung_0 ++ dktX5_hung_1
theorem dksX5_hung_0 : cX5_hung.data.toList.drop 0 = dktX5_hung_0 := by decide +kernel
theorem dksX5_hung_1 : cX5_hung.data.toList.drop 23 = dktX5_hung_1 := dk_seg dksX5_hung_0 23 rfl rfl
theorem dX5_hung_0 : decode cX5_hung 0 = .ok (.iconst 0, 1) := dk_3 (dk_at dksX5_hung_0 0 rfl rfl)
theorem dX5_hung_1 : decode cX5_hung 1 = .ok (.istore_n 1, 1) := dk_60 (dk_at dksX5_hung_0 1 rfl rfl)
theorem dX5_hung_2 : decode cX5_hung 2 = .ok (.iconst 0, 1) := dk_3 (dk_at dksX5_hung_0 2 rfl rfl)
theorem dX5_hung_3 : decode cX5_hung 3 = .ok (.istore_n 2, 1) := dk_61 (dk_at dksX5_hung_0 3 rfl rfl)
theorem dX5_hung_4 : decode cX5_hung 4 = .ok (.iload_n 2, 1) := dk_28 (dk_at dksX5_hung_0 4 rfl rfl)
theorem dX5_hung_5 : decode cX5_hung 5 = .ok (.aload_n 0, 1) := dk_42 (dk_at dksX5_hung_0 5 rfl rfl)
theorem dX5_hung_6 : decode cX5_hung 6 = .ok (.getfield 9, 3) := dk_180 0 9 (dk_at dksX5_hung_0 6 rfl rfl)
theorem dX5_hung_9 : decode cX5_hung 9 = .ok (.if_icmp .ge 28, 3) := dk_162 0 28 (dk_at dksX5_hung_0 9 rfl rfl)
theorem dX5_hung_12 : decode cX5_hung 12 = .ok (.iload_n 1, 1) := dk_27 (dk_at dksX5_hung_0 12 rfl rfl)
theorem dX5_hung_13 : decode cX5_hung 13 = .ok (.aload_n 0, 1) := dk_42 (dk_at dksX5_hung_0 13 rfl rfl)
theorem dX5_hung_14 : decode cX5_hung 14 = .ok (.getfield 15, 3) := dk_180 0 15 (dk_at dksX5_hung_0 14 rfl rfl)
theorem dX5_hung_17 : decode cX5_hung 17 = .ok (.iload_n 2, 1) := dk_28 (dk_at dksX5_hung_0 17 rfl rfl)
theorem dX5_hung_18 : decode cX5_hung 18 = .ok (.baload, 1) := dk_51 (dk_at dksX5_hung_0 18 rfl rfl)
theorem dX5_hung_19 : decode cX5_hung 19 = .ok (.ifCond .ne 7, 3) := dk_154 0 7 (dk_at dksX5_hung_0 19 rfl rfl)
theorem dX5_hung_22 : decode cX5_hung 22 = .ok (.iconst 0, 1) := dk_3 (dk_at dksX5_hung_0 22 rfl rfl)
theorem dX5_hung_23 : decode cX5_hung 23 = .ok (.goto 6, 3) := dk_167 0 6 (dk_at dksX5_hung_1 0 rfl rfl)
theorem dX5_hung_26 : decode cX5_hung 26 = .ok (.iconst 1, 1) := dk_4 (dk_at dksX5_hung_1 3 rfl rfl)
theorem dX5_hung_27 : decode cX5_hung 27 = .ok (.iload_n 2, 1) := dk_28 (dk_at dksX5_hung_1 4 rfl rfl)
theorem dX5_hung_28 : decode cX5_hung 28 = .ok (.ishl, 1) := dk_120 (dk_at dksX5_hung_1 5 rfl rfl)
theorem dX5_hung_29 : decode cX5_hung 29 = .ok (.ior, 1) := dk_128 (dk_at dksX5_hung_1 6 rfl rfl)
theorem dX5_hung_30 : decode cX5_hung 30 = .ok (.istore_n 1, 1) := dk_60 (dk_at dksX5_hung_1 7 rfl rfl)
theorem dX5_hung_31 : decode cX5_hung 31 = .ok (.iinc 2 1, 3) := dk_132 2 1 (dk_at dksX5_hung_1 8 rfl rfl)
theorem dX5_hung_34 : decode cX5_hung 34 = .ok (.goto (-30), 3) := dk_167 255 226 (dk_at dksX5_hung_1 11 rfl rfl)
theorem dX5_hung_37 : decode cX5_hung 37 = .ok (.iload_n 1, 1) := dk_27 (dk_at dksX5_hung_1 14 rfl rfl)
theorem dX5_hung_38 : decode cX5_hung 38 = .ok (.ireturn, 1) := dk_172 (dk_at dksX5_hung_1 15 rfl rfl)
def dkwX5_of_0 : List UInt8 := [42, 180, 0, 19, 7, 27, 104, 28, 96, 51, 172]
abbrev dktX5_of_0 : List UInt8 := dkwX5_of_0 ++ []
theorem dksX5_of_0 : cX5_of.data.toList.drop 0 = dktX5_of_0 := by decide +kernel
theorem dX5_of_0 : decode cX5_of 0 = .ok (.aload_n 0, 1) := dk_42 (dk_at dksX5_of_0 0 rfl rfl)
theorem dX5_of_1 : decode cX5_of 1 = .ok (.getfield 19, 3) := dk_180 0 19 (dk_at dksX5_of_0 1 rfl rfl)
theorem dX5_of_4 : decode cX5_of 4 = .ok (.iconst 4, 1) := dk_7 (dk_at dksX5_of_0 4 rfl rfl)
theorem dX5_of_5 : decode cX5_of 5 = .ok (.iload_n 1, 1) := dk_27 (dk_at dksX5_of_0 5 rfl rfl)
theorem dX5_of_6 : decode cX5_of 6 = .ok (.imul, 1) := dk_104 (dk_at dksX5_of_0 6 rfl rfl)
theorem dX5_of_7 : decode cX5_of 7 = .ok (.iload_n 2, 1) := dk_28 (dk_at dksX5_of_0 7 rfl rfl)
theorem dX5_of_8 : decode cX5_of 8 = .ok (.iadd, 1) := dk_96 (dk_at dksX5_of_0 8 rfl rfl)
theorem dX5_of_9 : decode cX5_of 9 = .ok (.baload, 1) := dk_51 (dk_at dksX5_of_0 9 rfl rfl)
theorem dX5_of_10 : decode cX5_of 10 = .ok (.ireturn, 1) := dk_172 (dk_at dksX5_of_0 10 rfl rfl)
def dkwX5_next_3 : List UInt8 := [4, 100, 172]
abbrev dktX5_next_3 : List UInt8 := dkwX5_next_3 ++ []
def dkwX5_next_2 : List UInt8 := [100, 167, 0, 4, 3, 160, 0, 8, 16, 252, 167, 0, 16, 29, 153, 0, 9, 28, 4, 96, 167, 0, 6, 28]
abbrev dktX5_next_2 : List UInt8 := dkwX5_next_2 ++ dktX5_next_3
def dkwX5_next_1 : List UInt8 := [153, 0, 7, 3, 167, 0, 9, 42, 180, 0, 9, 4, 100, 172, 28, 29, 153, 0, 12, 42, 180, 0, 9, 4]
abbrev dktX5_next_1 : List UInt8 := dkwX5_next_1 ++ dktX5_next_2
def dkwX5_next_0 : List UInt8 := [42, 27, 4, 182, 0, 34, 154, 0, 7, 4, 167, 0, 4, 3, 62, 28, 16, 252, 160, 0, 18, 29]
abbrev dktX5_next_0 : List UInt8 := dkwX5_next_0 ++ dktX5_next_1
theorem dksX5_next_0 : cX5_next.data.toList.drop 0 = dktX5_next_0 := by decide +kernel
theorem dksX5_next_1 : cX5_next.data.toList.drop 22 = dktX5_next_1 := dk_seg dksX5_next_0 22 rfl rfl
theorem dksX5_next_2 : cX5_next.data.toList.drop 46 = dktX5_next_2 := dk_seg dksX5_next_1 24 rfl rfl
theorem dksX5_next_3 : cX5_next.data.toList.drop 70 = dktX5_next_3 := dk_seg dksX5_next_2 24 rfl rfl
theorem dX5_next_0 : decode cX5_next 0 = .ok (.aload_n 0, 1) := dk_42 (dk_at dksX5_next_0 0 rfl rfl)
theorem dX5_next_1 : decode cX5_next 1 = .ok (.iload_n 1, 1) := dk_27 (dk_at dksX5_next_0 1 rfl rfl)
theorem dX5_next_2 : decode cX5_next 2 = .ok (.iconst 1, 1) := dk_4 (dk_at dksX5_next_0 2 rfl rfl)
theorem dX5_next_3 : decode cX5_next 3 = .ok (.invokevirtual 34, 3) := dk_182 0 34 (dk_at dksX5_next_0 3 rfl rfl)
theorem dX5_next_6 : decode cX5_next 6 = .ok (.ifCond .ne 7, 3) := dk_154 0 7 (dk_at dksX5_next_0 6 rfl rfl)
theorem dX5_next_9 : decode cX5_next 9 = .ok (.iconst 1, 1) := dk_4 (dk_at dksX5_next_0 9 rfl rfl)
theorem dX5_next_10 : decode cX5_next 10 = .ok (.goto 4, 3) := dk_167 0 4 (dk_at dksX5_next_0 10 rfl rfl)
theorem dX5_next_13 : decode cX5_next 13 = .ok (.iconst 0, 1) := dk_3 (dk_at dksX5_next_0 13 rfl rfl)
theorem dX5_next_14 : decode cX5_next 14 = .ok (.istore_n 3, 1) := dk_62 (dk_at dksX5_next_0 14 rfl rfl)
theorem dX5_next_15 : decode cX5_next 15 = .ok (.iload_n 2, 1) := dk_28 (dk_at dksX5_next_0 15 rfl rfl)
theorem dX5_next_16 : decode cX5_next 16 = .ok (.bipush (-4), 2) := dk_16 252 (dk_at dksX5_next_0 16 rfl rfl)
theorem dX5_next_18 : decode cX5_next 18 = .ok (.if_icmp .ne 18, 3) := dk_160 0 18 (dk_at dksX5_next_0 18 rfl rfl)
theorem dX5_next_21 : decode cX5_next 21 = .ok (.iload_n 3, 1) := dk_29 (dk_at dksX5_next_0 21 rfl rfl)
theorem dX5_next_22 : decode cX5_next 22 = .ok (.ifCond .eq 7, 3) := dk_153 0 7 (dk_at dksX5_next_1 0 rfl rfl)
theorem dX5_next_25 : decode cX5_next 25 = .ok (.iconst 0, 1) := dk_3 (dk_at dksX5_next_1 3 rfl rfl)
theorem dX5_next_26 : decode cX5_next 26 = .ok (.goto 9, 3) := dk_167 0 9 (dk_at dksX5_next_1 4 rfl rfl)
theorem dX5_next_29 : decode cX5_next 29 = .ok (.aload_n 0, 1) := dk_42 (dk_at dksX5_next_1 7 rfl rfl)
theorem dX5_next_30 : decode cX5_next 30 = .ok (.getfield 9, 3) := dk_180 0 9 (dk_at dksX5_next_1 8 rfl rfl)
theorem dX5_next_33 : decode cX5_next 33 = .ok (.iconst 1, 1) := dk_4 (dk_at dksX5_next_1 11 rfl rfl)
theorem dX5_next_34 : decode cX5_next 34 = .ok (.isub, 1) := dk_100 (dk_at dksX5_next_1 12 rfl rfl)
theorem dX5_next_35 : decode cX5_next 35 = .ok (.ireturn, 1) := dk_172 (dk_at dksX5_next_1 13 rfl rfl)
theorem dX5_next_36 : decode cX5_next 36 = .ok (.iload_n 2, 1) := dk_28 (dk_at dksX5_next_1 14 rfl rfl)
theorem dX5_next_37 : decode cX5_next 37 = .ok (.iload_n 3, 1) := dk_29 (dk_at dksX5_next_1 15 rfl rfl)
theorem dX5_next_38 : decode cX5_next 38 = .ok (.ifCond .eq 12, 3) := dk_153 0 12 (dk_at dksX5_next_1 16 rfl rfl)
theorem dX5_next_41 : decode cX5_next 41 = .ok (.aload_n 0, 1) := dk_42 (dk_at dksX5_next_1 19 rfl rfl)
theorem dX5_next_42 : decode cX5_next 42 = .ok (.getfield 9, 3) := dk_180 0 9 (dk_at dksX5_next_1 20 rfl rfl)
theorem dX5_next_45 : decode cX5_next 45 = .ok (.iconst 1, 1) := dk_4 (dk_at dksX5_next_1 23 rfl rfl)
theorem dX5_next_46 : decode cX5_next 46 = .ok (.isub, 1) := dk_100 (dk_at dksX5_next_2 0 rfl rfl)
theorem dX5_next_47 : decode cX5_next 47 = .ok (.goto 4, 3) := dk_167 0 4 (dk_at dksX5_next_2 1 rfl rfl)
theorem dX5_next_50 : decode cX5_next 50 = .ok (.iconst 0, 1) := dk_3 (dk_at dksX5_next_2 4 rfl rfl)
theorem dX5_next_51 : decode cX5_next 51 = .ok (.if_icmp .ne 8, 3) := dk_160 0 8 (dk_at dksX5_next_2 5 rfl rfl)
theorem dX5_next_54 : decode cX5_next 54 = .ok (.bipush (-4), 2) := dk_16 252 (dk_at dksX5_next_2 8 rfl rfl)
theorem dX5_next_56 : decode cX5_next 56 = .ok (.goto 16, 3) := dk_167 0 16 (dk_at dksX5_next_2 10 rfl rfl)
theorem dX5_next_59 : decode cX5_next 59 = .ok (.iload_n 3, 1) := dk_29 (dk_at dksX5_next_2 13 rfl rfl)
theorem dX5_next_60 : decode cX5_next 60 = .ok (.ifCond .eq 9, 3) := dk_153 0 9 (dk_at dksX5_next_2 14 rfl rfl)
theorem dX5_next_63 : decode cX5_next 63 = .ok (.iload_n 2, 1) := dk_28 (dk_at dksX5_next_2 17 rfl rfl)
theorem dX5_next_64 : decode cX5_next 64 = .ok (.iconst 1, 1) := dk_4 (dk_at dksX5_next_2 18 rfl rfl)
theorem dX5_next_65 : decode cX5_next 65 = .ok (.iadd, 1) := dk_96 (dk_at dksX5_next_2 19 rfl rfl)
theorem dX5_next_66 : decode cX5_next 66 = .ok (.goto 6, 3) := dk_167 0 6 (dk_at dksX5_next_2 20 rfl rfl)
theorem dX5_next_69 : decode cX5_next 69 = .ok (.iload_n 2, 1) := dk_28 (dk_at dksX5_next_2 23 rfl rfl)
theorem dX5_next_70 : decode cX5_next 70 = .ok (.iconst 1, 1) := dk_4 (dk_at dksX5_next_3 0 rfl rfl)
theorem dX5_next_71 : decode cX5_next 71 = .ok (.isub, 1) := dk_100 (dk_at dksX5_next_3 1 rfl rfl)
theorem dX5_next_72 : decode cX5_next 72 = .ok (.ireturn, 1) := dk_172 (dk_at dksX5_next_3 2 rfl rfl)
abbrev bW (b : Nat) (bo : Nat) (bt : Nat) (ca : Nat → ClassId) (b_blocks : Int32) (b_guarded : Int32) (b_trains : Int32) (b_omen : Nat → Int32) (b_train : Nat → Int32) : va_W := [
  (b, .inr (5, [.int b_blocks, .ref bo, .int b_guarded, .int b_trains, .ref bt])),
  (bo, .inl (ca 2, 8, .inl b_omen)),
  (bt, .inl (ca 2, 16, .inl b_train))]
abbrev bbW (b : Nat) (bo : Nat) (bt : Nat) (d : Nat) (do_ : Nat) (dt : Nat) (ca : Nat → ClassId) (b_blocks : Int32) (b_guarded : Int32) (b_trains : Int32) (b_omen : Nat → Int32) (b_train : Nat → Int32) (d_blocks : Int32) (d_guarded : Int32) (d_trains : Int32) (d_omen : Nat → Int32) (d_train : Nat → Int32) : va_W := [
  (b, .inr (5, [.int b_blocks, .ref bo, .int b_guarded, .int b_trains, .ref bt])),
  (bo, .inl (ca 2, 8, .inl b_omen)),
  (bt, .inl (ca 2, 16, .inl b_train)),
  (d, .inr (5, [.int d_blocks, .ref do_, .int d_guarded, .int d_trains, .ref dt])),
  (do_, .inl (ca 2, 8, .inl d_omen)),
  (dt, .inl (ca 2, 16, .inl d_train))]
abbrev fW (f : Nat) (ci : Nat) (ca : Nat → ClassId) : va_W := [
  (f, .inr (ci, []))]
abbrev lW (ad : Nat → Nat) (ca : Nat → ClassId) (kept : Int32) (locks : Int32) (seenMany : Int32) (bumpMinute : Int32) (bumpBlock : Int32) (bumpTrains : Int32) (waited : Int32) (keptOut : Int32) (used : Int32) (taped : Int32) (fault : Int32) (costSum : Int64) (safeSum : Int64) (allWays : Int64) (torn : Int32) (lockA : Nat → Int32) : va_W := [
  ((ad 0), .inr (0, [.ref (ad 1), .ref (ad 6), .ref (ad 9), .ref (ad 12), .int kept, .int locks, .ref (ad 19), .ref (ad 20), .int seenMany, .ref (ad 21), .ref (ad 22), .ref (ad 23), .ref (ad 24), .ref (ad 25), .int bumpMinute, .int bumpBlock, .int bumpTrains, .int waited, .int keptOut, .int used, .ref (ad 26), .int taped, .int fault, .long costSum, .long safeSum, .long allWays, .ref (ad 27), .ref (ad 28), .int torn])),
  ((ad 19), .inl (ca 2, 8, .inl lockA))]
abbrev rW (ad : Nat → Nat) (b : Nat) (bo : Nat) (bt : Nat) (ca : Nat → ClassId) (kept : Int32) (locks : Int32) (seenMany : Int32) (bumpMinute : Int32) (bumpBlock : Int32) (bumpTrains : Int32) (waited : Int32) (keptOut : Int32) (used : Int32) (taped : Int32) (fault : Int32) (costSum : Int64) (safeSum : Int64) (allWays : Int64) (torn : Int32) (whr : Nat → Int32) (homes : Nat → Int32) (isSeen : Nat → Int32) (leftA : Nat → Int32) (were : Nat → Int32) (lockA : Nat → Int32) (b_blocks : Int32) (b_guarded : Int32) (b_trains : Int32) (b_omen : Nat → Int32) (b_train : Nat → Int32) : va_W := [
  ((ad 0), .inr (0, [.ref (ad 1), .ref (ad 6), .ref (ad 9), .ref (ad 12), .int kept, .int locks, .ref (ad 19), .ref (ad 20), .int seenMany, .ref (ad 21), .ref (ad 22), .ref (ad 23), .ref (ad 24), .ref (ad 25), .int bumpMinute, .int bumpBlock, .int bumpTrains, .int waited, .int keptOut, .int used, .ref (ad 26), .int taped, .int fault, .long costSum, .long safeSum, .long allWays, .ref (ad 27), .ref (ad 28), .int torn])),
  ((ad 1), .inl (ca 4, 4, .inr (.inr (.inr (.inr (rq [(ad 2), (ad 3), (ad 4), (ad 5)])))))),
  ((ad 2), .inr (1, [])),
  ((ad 3), .inr (2, [])),
  ((ad 4), .inr (3, [])),
  ((ad 5), .inr (4, [])),
  ((ad 21), .inl (ca 0, 4, .inl whr)),
  ((ad 22), .inl (ca 0, 4, .inl homes)),
  ((ad 23), .inl (ca 1, 4, .inl isSeen)),
  ((ad 24), .inl (ca 0, 4, .inl leftA)),
  ((ad 25), .inl (ca 2, 480, .inl were)),
  ((ad 19), .inl (ca 2, 8, .inl lockA)),
  (b, .inr (5, [.int b_blocks, .ref bo, .int b_guarded, .int b_trains, .ref bt])),
  (bo, .inl (ca 2, 8, .inl b_omen)),
  (bt, .inl (ca 2, 16, .inl b_train))]
abbrev oW (ad : Nat → Nat) (ca : Nat → ClassId) (kept : Int32) (locks : Int32) (seenMany : Int32) (bumpMinute : Int32) (bumpBlock : Int32) (bumpTrains : Int32) (waited : Int32) (keptOut : Int32) (used : Int32) (taped : Int32) (fault : Int32) (costSum : Int64) (safeSum : Int64) (allWays : Int64) (torn : Int32) (n_blocks : Int32) (n_guarded : Int32) (n_trains : Int32) (n_omen : Nat → Int32) (n_train : Nat → Int32) (t_blocks : Int32) (t_guarded : Int32) (t_trains : Int32) (t_omen : Nat → Int32) (t_train : Nat → Int32) (i0_blocks : Int32) (i0_guarded : Int32) (i0_trains : Int32) (i0_omen : Nat → Int32) (i0_train : Nat → Int32) (i1_blocks : Int32) (i1_guarded : Int32) (i1_trains : Int32) (i1_omen : Nat → Int32) (i1_train : Nat → Int32) (lockA : Nat → Int32) (seenA : Nat → Int32) (whr : Nat → Int32) (homes : Nat → Int32) (isSeen : Nat → Int32) (leftA : Nat → Int32) (were : Nat → Int32) (tape : Nat → Int32) (would : Nat → Int32) (row0 : Option Nat) (row1 : Option Nat) (row2 : Option Nat) (row3 : Option Nat) : va_W := [
  ((ad 0), .inr (0, [.ref (ad 1), .ref (ad 6), .ref (ad 9), .ref (ad 12), .int kept, .int locks, .ref (ad 19), .ref (ad 20), .int seenMany, .ref (ad 21), .ref (ad 22), .ref (ad 23), .ref (ad 24), .ref (ad 25), .int bumpMinute, .int bumpBlock, .int bumpTrains, .int waited, .int keptOut, .int used, .ref (ad 26), .int taped, .int fault, .long costSum, .long safeSum, .long allWays, .ref (ad 27), .ref (ad 28), .int torn])),
  ((ad 1), .inl (ca 4, 4, .inr (.inr (.inr (.inr (rq [(ad 2), (ad 3), (ad 4), (ad 5)])))))),
  ((ad 2), .inr (1, [])),
  ((ad 3), .inr (2, [])),
  ((ad 4), .inr (3, [])),
  ((ad 5), .inr (4, [])),
  ((ad 6), .inr (5, [.int n_blocks, .ref (ad 7), .int n_guarded, .int n_trains, .ref (ad 8)])),
  ((ad 7), .inl (ca 2, 8, .inl n_omen)),
  ((ad 8), .inl (ca 2, 16, .inl n_train)),
  ((ad 9), .inr (5, [.int t_blocks, .ref (ad 10), .int t_guarded, .int t_trains, .ref (ad 11)])),
  ((ad 10), .inl (ca 2, 8, .inl t_omen)),
  ((ad 11), .inl (ca 2, 16, .inl t_train)),
  ((ad 12), .inl (ca 5, 2, .inr (.inr (.inr (.inr (rq [(ad 13), (ad 16)])))))),
  ((ad 13), .inr (5, [.int i0_blocks, .ref (ad 14), .int i0_guarded, .int i0_trains, .ref (ad 15)])),
  ((ad 14), .inl (ca 2, 8, .inl i0_omen)),
  ((ad 15), .inl (ca 2, 16, .inl i0_train)),
  ((ad 16), .inr (5, [.int i1_blocks, .ref (ad 17), .int i1_guarded, .int i1_trains, .ref (ad 18)])),
  ((ad 17), .inl (ca 2, 8, .inl i1_omen)),
  ((ad 18), .inl (ca 2, 16, .inl i1_train)),
  ((ad 19), .inl (ca 2, 8, .inl lockA)),
  ((ad 20), .inl (ca 2, 18, .inl seenA)),
  ((ad 21), .inl (ca 0, 4, .inl whr)),
  ((ad 22), .inl (ca 0, 4, .inl homes)),
  ((ad 23), .inl (ca 1, 4, .inl isSeen)),
  ((ad 24), .inl (ca 0, 4, .inl leftA)),
  ((ad 25), .inl (ca 2, 480, .inl were)),
  ((ad 26), .inl (ca 2, 160, .inl tape)),
  ((ad 27), .inl (ca 2, 480, .inl would)),
  ((ad 28), .inl (ca 6, 4, .inr (.inr (.inr (.inr (rq [(ad 29), (ad 30), (ad 31), (ad 32)])))))),
  ((ad 29), .inr (6, [va_rf row0])),
  ((ad 30), .inr (6, [va_rf row1])),
  ((ad 31), .inr (6, [va_rf row2])),
  ((ad 32), .inr (6, [va_rf row3]))]
def I_bitCount (x0 : Int32) (Q : Int32 → Prop) : Prop :=
  (Q ((((((((x0 - ((((x0).toUInt32 >>> (((1 : Int32)).toUInt32 &&& Int32.toUInt32 31)).toInt32) &&& (1431655765 : Int32))) &&& (858993459 : Int32)) + (((((x0 - ((((x0).toUInt32 >>> (((1 : Int32)).toUInt32 &&& Int32.toUInt32 31)).toInt32) &&& (1431655765 : Int32)))).toUInt32 >>> (((2 : Int32)).toUInt32 &&& Int32.toUInt32 31)).toInt32) &&& (858993459 : Int32))) + ((((((x0 - ((((x0).toUInt32 >>> (((1 : Int32)).toUInt32 &&& Int32.toUInt32 31)).toInt32) &&& (1431655765 : Int32))) &&& (858993459 : Int32)) + (((((x0 - ((((x0).toUInt32 >>> (((1 : Int32)).toUInt32 &&& Int32.toUInt32 31)).toInt32) &&& (1431655765 : Int32)))).toUInt32 >>> (((2 : Int32)).toUInt32 &&& Int32.toUInt32 31)).toInt32) &&& (858993459 : Int32)))).toUInt32 >>> (((4 : Int32)).toUInt32 &&& Int32.toUInt32 31)).toInt32)) &&& (252645135 : Int32)) + ((((((((x0 - ((((x0).toUInt32 >>> (((1 : Int32)).toUInt32 &&& Int32.toUInt32 31)).toInt32) &&& (1431655765 : Int32))) &&& (858993459 : Int32)) + (((((x0 - ((((x0).toUInt32 >>> (((1 : Int32)).toUInt32 &&& Int32.toUInt32 31)).toInt32) &&& (1431655765 : Int32)))).toUInt32 >>> (((2 : Int32)).toUInt32 &&& Int32.toUInt32 31)).toInt32) &&& (858993459 : Int32))) + ((((((x0 - ((((x0).toUInt32 >>> (((1 : Int32)).toUInt32 &&& Int32.toUInt32 31)).toInt32) &&& (1431655765 : Int32))) &&& (858993459 : Int32)) + (((((x0 - ((((x0).toUInt32 >>> (((1 : Int32)).toUInt32 &&& Int32.toUInt32 31)).toInt32) &&& (1431655765 : Int32)))).toUInt32 >>> (((2 : Int32)).toUInt32 &&& Int32.toUInt32 31)).toInt32) &&& (858993459 : Int32)))).toUInt32 >>> (((4 : Int32)).toUInt32 &&& Int32.toUInt32 31)).toInt32)) &&& (252645135 : Int32))).toUInt32 >>> (((8 : Int32)).toUInt32 &&& Int32.toUInt32 31)).toInt32)) + (((((((((x0 - ((((x0).toUInt32 >>> (((1 : Int32)).toUInt32 &&& Int32.toUInt32 31)).toInt32) &&& (1431655765 : Int32))) &&& (858993459 : Int32)) + (((((x0 - ((((x0).toUInt32 >>> (((1 : Int32)).toUInt32 &&& Int32.toUInt32 31)).toInt32) &&& (1431655765 : Int32)))).toUInt32 >>> (((2 : Int32)).toUInt32 &&& Int32.toUInt32 31)).toInt32) &&& (858993459 : Int32))) + ((((((x0 - ((((x0).toUInt32 >>> (((1 : Int32)).toUInt32 &&& Int32.toUInt32 31)).toInt32) &&& (1431655765 : Int32))) &&& (858993459 : Int32)) + (((((x0 - ((((x0).toUInt32 >>> (((1 : Int32)).toUInt32 &&& Int32.toUInt32 31)).toInt32) &&& (1431655765 : Int32)))).toUInt32 >>> (((2 : Int32)).toUInt32 &&& Int32.toUInt32 31)).toInt32) &&& (858993459 : Int32)))).toUInt32 >>> (((4 : Int32)).toUInt32 &&& Int32.toUInt32 31)).toInt32)) &&& (252645135 : Int32)) + ((((((((x0 - ((((x0).toUInt32 >>> (((1 : Int32)).toUInt32 &&& Int32.toUInt32 31)).toInt32) &&& (1431655765 : Int32))) &&& (858993459 : Int32)) + (((((x0 - ((((x0).toUInt32 >>> (((1 : Int32)).toUInt32 &&& Int32.toUInt32 31)).toInt32) &&& (1431655765 : Int32)))).toUInt32 >>> (((2 : Int32)).toUInt32 &&& Int32.toUInt32 31)).toInt32) &&& (858993459 : Int32))) + ((((((x0 - ((((x0).toUInt32 >>> (((1 : Int32)).toUInt32 &&& Int32.toUInt32 31)).toInt32) &&& (1431655765 : Int32))) &&& (858993459 : Int32)) + (((((x0 - ((((x0).toUInt32 >>> (((1 : Int32)).toUInt32 &&& Int32.toUInt32 31)).toInt32) &&& (1431655765 : Int32)))).toUInt32 >>> (((2 : Int32)).toUInt32 &&& Int32.toUInt32 31)).toInt32) &&& (858993459 : Int32)))).toUInt32 >>> (((4 : Int32)).toUInt32 &&& Int32.toUInt32 31)).toInt32)) &&& (252645135 : Int32))).toUInt32 >>> (((8 : Int32)).toUInt32 &&& Int32.toUInt32 31)).toInt32))).toUInt32 >>> (((16 : Int32)).toUInt32 &&& Int32.toUInt32 31)).toInt32)) &&& (63 : Int32)))
def F1_waits_e (x1 : Int32) : Int32 := (if x1 = (1 : Int32) then (1 : Int32) else (if (3 : Int32) ≤ x1 then (((2 : Int32) * x1) - (3 : Int32)) else (0 : Int32)))
def F2_waits_e (x1 : Int32) : Int32 := ((F1_waits_e x1) / (2 : Int32))
def F3_waits_e (x1 : Int32) : Int32 := (if x1 = 0 then (0 : Int32) else ((F1_waits_e x1) + (1 : Int32)))
def F4_waits_e (x1 : Int32) : Int32 := (if x1 = (1 : Int32) then (0 : Int32) else (if x1 = (2 : Int32) then ((F3_waits_e x1) + (1 : Int32)) else (if (0 : Int32) < ((F3_waits_e x1) - (1 : Int32)) then ((F3_waits_e x1) - (1 : Int32)) else (0 : Int32))))
def B_as (b_blocks : Int32) (b_guarded : Int32) (b_trains : Int32) (b_omen : Nat → Int32) (b_train : Nat → Int32) (d_blocks : Int32) (d_guarded : Int32) (d_trains : Int32) (d_omen : Nat → Int32) (d_train : Nat → Int32) (Q : Int32 → Int32 → Int32 → (Nat → Int32) → (Nat → Int32) → Prop) : Prop :=
  (bfit d_omen 8 ∧ (bfit d_train 16 ∧ (Q d_blocks d_guarded d_trains (va_cpy d_omen b_omen (0 : Int32).toNatClampNeg (0 : Int32).toNatClampNeg (8 : Int32).toNatClampNeg) (va_cpy d_train b_train (0 : Int32).toNatClampNeg (0 : Int32).toNatClampNeg (16 : Int32).toNatClampNeg))))
def B_of_s (b_train : Nat → Int32) (x1 : Int32) (x2 : Int32) : Prop := vp_in (((4 : Int32) * x1) + x2) 16
def B_of_e (b_train : Nat → Int32) (x1 : Int32) (x2 : Int32) : Int32 := (b_train (((4 : Int32) * x1) + x2).toNatClampNeg)
def B_hung_L4 (b_blocks : Int32) (b_omen : Nat → Int32) (k37 : Int32 → Prop) : Nat → Int32 → Int32 → Prop
  | 0, _, _ => False
  | n + 1, x1, x2 =>
  ((b_blocks ≤ x2 → (k37 x1)) ∧ (¬ (b_blocks ≤ x2) → (vp_in x2 8 ∧ ((B_hung_L4 b_blocks b_omen k37 n) (x1 ||| (if (b_omen x2.toNatClampNeg) = 0 then (0 : Int32) else ((1 : Int32) <<< (x2 &&& 31)))) (x2 + (1 : Int32))))))
def B_hung (b_blocks : Int32) (b_omen : Nat → Int32) (Q : Int32 → Prop) : Prop :=
  (∃ n_5 : Nat, B_hung_L4 b_blocks b_omen (fun x1_6 => (Q x1_6)) n_5 (0 : Int32) (0 : Int32))
def B_next (b_blocks : Int32) (b_train : Nat → Int32) (x1 : Int32) (x2 : Int32) (Q : Int32 → Prop) : Prop :=
  (B_of_s b_train x1 (1 : Int32) ∧ (Q (if x2 = (-4 : Int32) then (if (if (B_of_e b_train x1 (1 : Int32)) = 0 then (1 : Int32) else (0 : Int32)) = 0 then (b_blocks - (1 : Int32)) else (0 : Int32)) else (if (if (B_of_e b_train x1 (1 : Int32)) = 0 then (1 : Int32) else (0 : Int32)) = 0 then (if x2 = (0 : Int32) then (-4 : Int32) else (if (if (B_of_e b_train x1 (1 : Int32)) = 0 then (1 : Int32) else (0 : Int32)) = 0 then (x2 - (1 : Int32)) else (x2 + (1 : Int32)))) else (if x2 = (b_blocks - (1 : Int32)) then (-4 : Int32) else (if (if (B_of_e b_train x1 (1 : Int32)) = 0 then (1 : Int32) else (0 : Int32)) = 0 then (x2 - (1 : Int32)) else (x2 + (1 : Int32))))))))
