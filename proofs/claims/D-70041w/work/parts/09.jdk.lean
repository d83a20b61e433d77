set_option maxRecDepth 100000
def dkwJ0_init_1 : List UInt8 := [182, 0, 27, 87, 177]
abbrev dktJ0_init_1 : List UInt8 := dkwJ0_init_1 ++ []
def dkwJ0_init_0 : List UInt8 := [42, 183, 0, 1, 42, 42, 181, 0, 7, 42, 178, 0, 13, 181, 0, 17, 42, 178, 0, 20, 181, 0, 24, 42]
abbrev dktJ0_init_0 : List UInt8 := dkwJ0_init_0 ++ dktJ0_init_1
theorem dksJ0_init_0 : cJ0_init.data.toList.drop 0 = dktJ0_init_0 := by decide +kernel
theorem dksJ0_init_1 : cJ0_init.data.toList.drop 24 = dktJ0_init_1 := dk_seg dksJ0_init_0 24 rfl rfl
theorem dJ0_init_0 : decode cJ0_init 0 = .ok (.aload_n 0, 1) := dk_42 (dk_at dksJ0_init_0 0 rfl rfl)
theorem dJ0_init_1 : decode cJ0_init 1 = .ok (.invokespecial 1, 3) := dk_183 0 1 (dk_at dksJ0_init_0 1 rfl rfl)
theorem dJ0_init_4 : decode cJ0_init 4 = .ok (.aload_n 0, 1) := dk_42 (dk_at dksJ0_init_0 4 rfl rfl)
theorem dJ0_init_5 : decode cJ0_init 5 = .ok (.aload_n 0, 1) := dk_42 (dk_at dksJ0_init_0 5 rfl rfl)
theorem dJ0_init_6 : decode cJ0_init 6 = .ok (.putfield 7, 3) := dk_181 0 7 (dk_at dksJ0_init_0 6 rfl rfl)
theorem dJ0_init_9 : decode cJ0_init 9 = .ok (.aload_n 0, 1) := dk_42 (dk_at dksJ0_init_0 9 rfl rfl)
theorem dJ0_init_10 : decode cJ0_init 10 = .ok (.getstatic 13, 3) := dk_178 0 13 (dk_at dksJ0_init_0 10 rfl rfl)
theorem dJ0_init_13 : decode cJ0_init 13 = .ok (.putfield 17, 3) := dk_181 0 17 (dk_at dksJ0_init_0 13 rfl rfl)
theorem dJ0_init_16 : decode cJ0_init 16 = .ok (.aload_n 0, 1) := dk_42 (dk_at dksJ0_init_0 16 rfl rfl)
theorem dJ0_init_17 : decode cJ0_init 17 = .ok (.getstatic 20, 3) := dk_178 0 20 (dk_at dksJ0_init_0 17 rfl rfl)
theorem dJ0_init_20 : decode cJ0_init 20 = .ok (.putfield 24, 3) := dk_181 0 24 (dk_at dksJ0_init_0 20 rfl rfl)
theorem dJ0_init_23 : decode cJ0_init 23 = .ok (.aload_n 0, 1) := dk_42 (dk_at dksJ0_init_0 23 rfl rfl)
theorem dJ0_init_24 : decode cJ0_init 24 = .ok (.invokevirtual 27, 3) := dk_182 0 27 (dk_at dksJ0_init_1 0 rfl rfl)
theorem dJ0_init_27 : decode cJ0_init 27 = .ok (.pop, 1) := dk_87 (dk_at dksJ0_init_1 3 rfl rfl)
theorem dJ0_init_28 : decode cJ0_init 28 = .ok (.return_, 1) := dk_177 (dk_at dksJ0_init_1 4 rfl rfl)
def dkwJ0_init_2_2 : List UInt8 := [44, 181, 0, 7, 29, 154, 0, 8, 42, 1, 181, 0, 24, 177]
abbrev dktJ0_init_2_2 : List UInt8 := dkwJ0_init_2_2 ++ []
def dkwJ0_init_2_1 : List UInt8 := [21, 4, 153, 0, 11, 42, 182, 0, 27, 87, 167, 0, 8, 42, 1, 181, 0, 17, 42, 43, 181, 0, 31, 42]
abbrev dktJ0_init_2_1 : List UInt8 := dkwJ0_init_2_1 ++ dktJ0_init_2_2
def dkwJ0_init_2_0 : List UInt8 := [42, 183, 0, 1, 42, 42, 181, 0, 7, 42, 178, 0, 13, 181, 0, 17, 42, 178, 0, 20, 181, 0, 24]
abbrev dktJ0_init_2_0 : List UInt8 := dkwJ0_init_2_0 ++ dktJ0_init_2_1
theorem dksJ0_init_2_0 : cJ0_init_2.data.toList.drop 0 = dktJ0_init_2_0 := by decide +kernel
theorem dksJ0_init_2_1 : cJ0_init_2.data.toList.drop 23 = dktJ0_init_2_1 := dk_seg dksJ0_init_2_0 23 rfl rfl
theorem dksJ0_init_2_2 : cJ0_init_2.data.toList.drop 47 = dktJ0_init_2_2 := dk_seg dksJ0_init_2_1 24 rfl rfl
theorem dJ0_init_2_0 : decode cJ0_init_2 0 = .ok (.aload_n 0, 1) := dk_42 (dk_at dksJ0_init_2_0 0 rfl rfl)
theorem dJ0_init_2_1 : decode cJ0_init_2 1 = .ok (.invokespecial 1, 3) := dk_183 0 1 (dk_at dksJ0_init_2_0 1 rfl rfl)
theorem dJ0_init_2_4 : decode cJ0_init_2 4 = .ok (.aload_n 0, 1) := dk_42 (dk_at dksJ0_init_2_0 4 rfl rfl)
theorem dJ0_init_2_5 : decode cJ0_init_2 5 = .ok (.aload_n 0, 1) := dk_42 (dk_at dksJ0_init_2_0 5 rfl rfl)
theorem dJ0_init_2_6 : decode cJ0_init_2 6 = .ok (.putfield 7, 3) := dk_181 0 7 (dk_at dksJ0_init_2_0 6 rfl rfl)
theorem dJ0_init_2_9 : decode cJ0_init_2 9 = .ok (.aload_n 0, 1) := dk_42 (dk_at dksJ0_init_2_0 9 rfl rfl)
theorem dJ0_init_2_10 : decode cJ0_init_2 10 = .ok (.getstatic 13, 3) := dk_178 0 13 (dk_at dksJ0_init_2_0 10 rfl rfl)
theorem dJ0_init_2_13 : decode cJ0_init_2 13 = .ok (.putfield 17, 3) := dk_181 0 17 (dk_at dksJ0_init_2_0 13 rfl rfl)
theorem dJ0_init_2_16 : decode cJ0_init_2 16 = .ok (.aload_n 0, 1) := dk_42 (dk_at dksJ0_init_2_0 16 rfl rfl)
theorem dJ0_init_2_17 : decode cJ0_init_2 17 = .ok (.getstatic 20, 3) := dk_178 0 20 (dk_at dksJ0_init_2_0 17 rfl rfl)
theorem dJ0_init_2_20 : decode cJ0_init_2 20 = .ok (.putfield 24, 3) := dk_181 0 24 (dk_at dksJ0_init_2_0 20 rfl rfl)
theorem dJ0_init_2_23 : decode cJ0_init_2 23 = .ok (.iload 4, 2) := dk_21 4 (dk_at dksJ0_init_2_1 0 rfl rfl)
theorem dJ0_init_2_25 : decode cJ0_init_2 25 = .ok (.ifCond .eq 11, 3) := dk_153 0 11 (dk_at dksJ0_init_2_1 2 rfl rfl)
theorem dJ0_init_2_28 : decode cJ0_init_2 28 = .ok (.aload_n 0, 1) := dk_42 (dk_at dksJ0_init_2_1 5 rfl rfl)
theorem dJ0_init_2_29 : decode cJ0_init_2 29 = .ok (.invokevirtual 27, 3) := dk_182 0 27 (dk_at dksJ0_init_2_1 6 rfl rfl)
theorem dJ0_init_2_32 : decode cJ0_init_2 32 = .ok (.pop, 1) := dk_87 (dk_at dksJ0_init_2_1 9 rfl rfl)
theorem dJ0_init_2_33 : decode cJ0_init_2 33 = .ok (.goto 8, 3) := dk_167 0 8 (dk_at dksJ0_init_2_1 10 rfl rfl)
theorem dJ0_init_2_36 : decode cJ0_init_2 36 = .ok (.aload_n 0, 1) := dk_42 (dk_at dksJ0_init_2_1 13 rfl rfl)
theorem dJ0_init_2_37 : decode cJ0_init_2 37 = .ok (.aconst_null, 1) := dk_1 (dk_at dksJ0_init_2_1 14 rfl rfl)
theorem dJ0_init_2_38 : decode cJ0_init_2 38 = .ok (.putfield 17, 3) := dk_181 0 17 (dk_at dksJ0_init_2_1 15 rfl rfl)
theorem dJ0_init_2_41 : decode cJ0_init_2 41 = .ok (.aload_n 0, 1) := dk_42 (dk_at dksJ0_init_2_1 18 rfl rfl)
theorem dJ0_init_2_42 : decode cJ0_init_2 42 = .ok (.aload_n 1, 1) := dk_43 (dk_at dksJ0_init_2_1 19 rfl rfl)
theorem dJ0_init_2_43 : decode cJ0_init_2 43 = .ok (.putfield 31, 3) := dk_181 0 31 (dk_at dksJ0_init_2_1 20 rfl rfl)
theorem dJ0_init_2_46 : decode cJ0_init_2 46 = .ok (.aload_n 0, 1) := dk_42 (dk_at dksJ0_init_2_1 23 rfl rfl)
theorem dJ0_init_2_47 : decode cJ0_init_2 47 = .ok (.aload_n 2, 1) := dk_44 (dk_at dksJ0_init_2_2 0 rfl rfl)
theorem dJ0_init_2_48 : decode cJ0_init_2 48 = .ok (.putfield 7, 3) := dk_181 0 7 (dk_at dksJ0_init_2_2 1 rfl rfl)
theorem dJ0_init_2_51 : decode cJ0_init_2 51 = .ok (.iload_n 3, 1) := dk_29 (dk_at dksJ0_init_2_2 4 rfl rfl)
theorem dJ0_init_2_52 : decode cJ0_init_2 52 = .ok (.ifCond .ne 8, 3) := dk_154 0 8 (dk_at dksJ0_init_2_2 5 rfl rfl)
theorem dJ0_init_2_55 : decode cJ0_init_2 55 = .ok (.aload_n 0, 1) := dk_42 (dk_at dksJ0_init_2_2 8 rfl rfl)
theorem dJ0_init_2_56 : decode cJ0_init_2 56 = .ok (.aconst_null, 1) := dk_1 (dk_at dksJ0_init_2_2 9 rfl rfl)
theorem dJ0_init_2_57 : decode cJ0_init_2 57 = .ok (.putfield 24, 3) := dk_181 0 24 (dk_at dksJ0_init_2_2 10 rfl rfl)
theorem dJ0_init_2_60 : decode cJ0_init_2 60 = .ok (.return_, 1) := dk_177 (dk_at dksJ0_init_2_2 13 rfl rfl)
def dkwJ0_init_3_1 : List UInt8 := [182, 0, 27, 87, 42, 43, 181, 0, 31, 177]
abbrev dktJ0_init_3_1 : List UInt8 := dkwJ0_init_3_1 ++ []
def dkwJ0_init_3_0 : List UInt8 := [42, 183, 0, 1, 42, 42, 181, 0, 7, 42, 178, 0, 13, 181, 0, 17, 42, 178, 0, 20, 181, 0, 24, 42]
abbrev dktJ0_init_3_0 : List UInt8 := dkwJ0_init_3_0 ++ dktJ0_init_3_1
theorem dksJ0_init_3_0 : cJ0_init_3.data.toList.drop 0 = dktJ0_init_3_0 := by decide +kernel
theorem dksJ0_init_3_1 : cJ0_init_3.data.toList.drop 24 = dktJ0_init_3_1 := dk_seg dksJ0_init_3_0 24 rfl rfl
theorem dJ0_init_3_0 : decode cJ0_init_3 0 = .ok (.aload_n 0, 1) := dk_42 (dk_at dksJ0_init_3_0 0 rfl rfl)
theorem dJ0_init_3_1 : decode cJ0_init_3 1 = .ok (.invokespecial 1, 3) := dk_183 0 1 (dk_at dksJ0_init_3_0 1 rfl rfl)
theorem dJ0_init_3_4 : decode cJ0_init_3 4 = .ok (.aload_n 0, 1) := dk_42 (dk_at dksJ0_init_3_0 4 rfl rfl)
theorem dJ0_init_3_5 : decode cJ0_init_3 5 = .ok (.aload_n 0, 1) := dk_42 (dk_at dksJ0_init_3_0 5 rfl rfl)
theorem dJ0_init_3_6 : decode cJ0_init_3 6 = .ok (.putfield 7, 3) := dk_181 0 7 (dk_at dksJ0_init_3_0 6 rfl rfl)
theorem dJ0_init_3_9 : decode cJ0_init_3 9 = .ok (.aload_n 0, 1) := dk_42 (dk_at dksJ0_init_3_0 9 rfl rfl)
theorem dJ0_init_3_10 : decode cJ0_init_3 10 = .ok (.getstatic 13, 3) := dk_178 0 13 (dk_at dksJ0_init_3_0 10 rfl rfl)
theorem dJ0_init_3_13 : decode cJ0_init_3 13 = .ok (.putfield 17, 3) := dk_181 0 17 (dk_at dksJ0_init_3_0 13 rfl rfl)
theorem dJ0_init_3_16 : decode cJ0_init_3 16 = .ok (.aload_n 0, 1) := dk_42 (dk_at dksJ0_init_3_0 16 rfl rfl)
theorem dJ0_init_3_17 : decode cJ0_init_3 17 = .ok (.getstatic 20, 3) := dk_178 0 20 (dk_at dksJ0_init_3_0 17 rfl rfl)
theorem dJ0_init_3_20 : decode cJ0_init_3 20 = .ok (.putfield 24, 3) := dk_181 0 24 (dk_at dksJ0_init_3_0 20 rfl rfl)
theorem dJ0_init_3_23 : decode cJ0_init_3 23 = .ok (.aload_n 0, 1) := dk_42 (dk_at dksJ0_init_3_0 23 rfl rfl)
theorem dJ0_init_3_24 : decode cJ0_init_3 24 = .ok (.invokevirtual 27, 3) := dk_182 0 27 (dk_at dksJ0_init_3_1 0 rfl rfl)
theorem dJ0_init_3_27 : decode cJ0_init_3 27 = .ok (.pop, 1) := dk_87 (dk_at dksJ0_init_3_1 3 rfl rfl)
theorem dJ0_init_3_28 : decode cJ0_init_3 28 = .ok (.aload_n 0, 1) := dk_42 (dk_at dksJ0_init_3_1 4 rfl rfl)
theorem dJ0_init_3_29 : decode cJ0_init_3 29 = .ok (.aload_n 1, 1) := dk_43 (dk_at dksJ0_init_3_1 5 rfl rfl)
theorem dJ0_init_3_30 : decode cJ0_init_3 30 = .ok (.putfield 31, 3) := dk_181 0 31 (dk_at dksJ0_init_3_1 6 rfl rfl)
theorem dJ0_init_3_33 : decode cJ0_init_3 33 = .ok (.return_, 1) := dk_177 (dk_at dksJ0_init_3_1 9 rfl rfl)
def dkwJ1_init_0 : List UInt8 := [42, 43, 44, 29, 21, 4, 183, 0, 16, 177]
abbrev dktJ1_init_0 : List UInt8 := dkwJ1_init_0 ++ []
theorem dksJ1_init_0 : cJ1_init.data.toList.drop 0 = dktJ1_init_0 := by decide +kernel
theorem dJ1_init_0 : decode cJ1_init 0 = .ok (.aload_n 0, 1) := dk_42 (dk_at dksJ1_init_0 0 rfl rfl)
theorem dJ1_init_1 : decode cJ1_init 1 = .ok (.aload_n 1, 1) := dk_43 (dk_at dksJ1_init_0 1 rfl rfl)
theorem dJ1_init_2 : decode cJ1_init 2 = .ok (.aload_n 2, 1) := dk_44 (dk_at dksJ1_init_0 2 rfl rfl)
theorem dJ1_init_3 : decode cJ1_init 3 = .ok (.iload_n 3, 1) := dk_29 (dk_at dksJ1_init_0 3 rfl rfl)
theorem dJ1_init_4 : decode cJ1_init 4 = .ok (.iload 4, 2) := dk_21 4 (dk_at dksJ1_init_0 4 rfl rfl)
theorem dJ1_init_6 : decode cJ1_init 6 = .ok (.invokespecial 16, 3) := dk_183 0 16 (dk_at dksJ1_init_0 6 rfl rfl)
theorem dJ1_init_9 : decode cJ1_init 9 = .ok (.return_, 1) := dk_177 (dk_at dksJ1_init_0 9 rfl rfl)
def dkwJ1_init_2_0 : List UInt8 := [42, 43, 183, 0, 7, 177]
abbrev dktJ1_init_2_0 : List UInt8 := dkwJ1_init_2_0 ++ []
theorem dksJ1_init_2_0 : cJ1_init_2.data.toList.drop 0 = dktJ1_init_2_0 := by decide +kernel
theorem dJ1_init_2_0 : decode cJ1_init_2 0 = .ok (.aload_n 0, 1) := dk_42 (dk_at dksJ1_init_2_0 0 rfl rfl)
theorem dJ1_init_2_1 : decode cJ1_init_2 1 = .ok (.aload_n 1, 1) := dk_43 (dk_at dksJ1_init_2_0 1 rfl rfl)
theorem dJ1_init_2_2 : decode cJ1_init_2 2 = .ok (.invokespecial 7, 3) := dk_183 0 7 (dk_at dksJ1_init_2_0 2 rfl rfl)
theorem dJ1_init_2_5 : decode cJ1_init_2 5 = .ok (.return_, 1) := dk_177 (dk_at dksJ1_init_2_0 5 rfl rfl)
theorem dJ1_init_3_0 : decode cJ1_init_3 0 = .ok (.aload_n 0, 1) := by decide +kernel
theorem dJ1_init_3_1 : decode cJ1_init_3 1 = .ok (.invokespecial 1, 3) := by decide +kernel
theorem dJ1_init_3_4 : decode cJ1_init_3 4 = .ok (.return_, 1) := by decide +kernel
def dkwJ2_length_0 : List UInt8 := [42, 180, 0, 9, 190, 42, 182, 1, 79, 122, 172]
abbrev dktJ2_length_0 : List UInt8 := dkwJ2_length_0 ++ []
theorem dksJ2_length_0 : cJ2_length.data.toList.drop 0 = dktJ2_length_0 := by decide +kernel
theorem dJ2_length_0 : decode cJ2_length 0 = .ok (.aload_n 0, 1) := dk_42 (dk_at dksJ2_length_0 0 rfl rfl)
theorem dJ2_length_1 : decode cJ2_length 1 = .ok (.getfield 9, 3) := dk_180 0 9 (dk_at dksJ2_length_0 1 rfl rfl)
theorem dJ2_length_4 : decode cJ2_length 4 = .ok (.arraylength, 1) := dk_190 (dk_at dksJ2_length_0 4 rfl rfl)
theorem dJ2_length_5 : decode cJ2_length 5 = .ok (.aload_n 0, 1) := dk_42 (dk_at dksJ2_length_0 5 rfl rfl)
theorem dJ2_length_6 : decode cJ2_length 6 = .ok (.invokevirtual 335, 3) := dk_182 1 79 (dk_at dksJ2_length_0 6 rfl rfl)
theorem dJ2_length_9 : decode cJ2_length 9 = .ok (.ishr, 1) := dk_122 (dk_at dksJ2_length_0 9 rfl rfl)
theorem dJ2_length_10 : decode cJ2_length 10 = .ok (.ireturn, 1) := dk_172 (dk_at dksJ2_length_0 10 rfl rfl)
def dkwJ2_coder_0 : List UInt8 := [178, 0, 38, 153, 0, 10, 42, 180, 0, 15, 167, 0, 4, 4, 172]
abbrev dktJ2_coder_0 : List UInt8 := dkwJ2_coder_0 ++ []
theorem dksJ2_coder_0 : cJ2_coder.data.toList.drop 0 = dktJ2_coder_0 := by decide +kernel
theorem dJ2_coder_0 : decode cJ2_coder 0 = .ok (.getstatic 38, 3) := dk_178 0 38 (dk_at dksJ2_coder_0 0 rfl rfl)
theorem dJ2_coder_3 : decode cJ2_coder 3 = .ok (.ifCond .eq 10, 3) := dk_153 0 10 (dk_at dksJ2_coder_0 3 rfl rfl)
theorem dJ2_coder_6 : decode cJ2_coder 6 = .ok (.aload_n 0, 1) := dk_42 (dk_at dksJ2_coder_0 6 rfl rfl)
theorem dJ2_coder_7 : decode cJ2_coder 7 = .ok (.getfield 15, 3) := dk_180 0 15 (dk_at dksJ2_coder_0 7 rfl rfl)
theorem dJ2_coder_10 : decode cJ2_coder 10 = .ok (.goto 4, 3) := dk_167 0 4 (dk_at dksJ2_coder_0 10 rfl rfl)
theorem dJ2_coder_13 : decode cJ2_coder 13 = .ok (.iconst 1, 1) := dk_4 (dk_at dksJ2_coder_0 13 rfl rfl)
theorem dJ2_coder_14 : decode cJ2_coder 14 = .ok (.ireturn, 1) := dk_172 (dk_at dksJ2_coder_0 14 rfl rfl)
def dkwJ2_charAt_1 : List UInt8 := [172]
abbrev dktJ2_charAt_1 : List UInt8 := dkwJ2_charAt_1 ++ []
def dkwJ2_charAt_0 : List UInt8 := [42, 182, 1, 236, 153, 0, 12, 42, 180, 0, 9, 27, 184, 1, 239, 172, 42, 180, 0, 9, 27, 184, 1, 242]
abbrev dktJ2_charAt_0 : List UInt8 := dkwJ2_charAt_0 ++ dktJ2_charAt_1
theorem dksJ2_charAt_0 : cJ2_charAt.data.toList.drop 0 = dktJ2_charAt_0 := by decide +kernel
theorem dksJ2_charAt_1 : cJ2_charAt.data.toList.drop 24 = dktJ2_charAt_1 := dk_seg dksJ2_charAt_0 24 rfl rfl
theorem dJ2_charAt_0 : decode cJ2_charAt 0 = .ok (.aload_n 0, 1) := dk_42 (dk_at dksJ2_charAt_0 0 rfl rfl)
theorem dJ2_charAt_1 : decode cJ2_charAt 1 = .ok (.invokevirtual 492, 3) := dk_182 1 236 (dk_at dksJ2_charAt_0 1 rfl rfl)
theorem dJ2_charAt_4 : decode cJ2_charAt 4 = .ok (.ifCond .eq 12, 3) := dk_153 0 12 (dk_at dksJ2_charAt_0 4 rfl rfl)
theorem dJ2_charAt_7 : decode cJ2_charAt 7 = .ok (.aload_n 0, 1) := dk_42 (dk_at dksJ2_charAt_0 7 rfl rfl)
theorem dJ2_charAt_8 : decode cJ2_charAt 8 = .ok (.getfield 9, 3) := dk_180 0 9 (dk_at dksJ2_charAt_0 8 rfl rfl)
theorem dJ2_charAt_11 : decode cJ2_charAt 11 = .ok (.iload_n 1, 1) := dk_27 (dk_at dksJ2_charAt_0 11 rfl rfl)
theorem dJ2_charAt_12 : decode cJ2_charAt 12 = .ok (.invokestatic 495, 3) := dk_184 1 239 (dk_at dksJ2_charAt_0 12 rfl rfl)
theorem dJ2_charAt_15 : decode cJ2_charAt 15 = .ok (.ireturn, 1) := dk_172 (dk_at dksJ2_charAt_0 15 rfl rfl)
theorem dJ2_charAt_16 : decode cJ2_charAt 16 = .ok (.aload_n 0, 1) := dk_42 (dk_at dksJ2_charAt_0 16 rfl rfl)
theorem dJ2_charAt_17 : decode cJ2_charAt 17 = .ok (.getfield 9, 3) := dk_180 0 9 (dk_at dksJ2_charAt_0 17 rfl rfl)
theorem dJ2_charAt_20 : decode cJ2_charAt 20 = .ok (.iload_n 1, 1) := dk_27 (dk_at dksJ2_charAt_0 20 rfl rfl)
theorem dJ2_charAt_21 : decode cJ2_charAt 21 = .ok (.invokestatic 498, 3) := dk_184 1 242 (dk_at dksJ2_charAt_0 21 rfl rfl)
theorem dJ2_charAt_24 : decode cJ2_charAt 24 = .ok (.ireturn, 1) := dk_172 (dk_at dksJ2_charAt_1 0 rfl rfl)
def dkwJ2_isLatin1_0 : List UInt8 := [178, 0, 38, 153, 0, 14, 42, 180, 0, 15, 154, 0, 7, 4, 167, 0, 4, 3, 172]
abbrev dktJ2_isLatin1_0 : List UInt8 := dkwJ2_isLatin1_0 ++ []
theorem dksJ2_isLatin1_0 : cJ2_isLatin1.data.toList.drop 0 = dktJ2_isLatin1_0 := by decide +kernel
theorem dJ2_isLatin1_0 : decode cJ2_isLatin1 0 = .ok (.getstatic 38, 3) := dk_178 0 38 (dk_at dksJ2_isLatin1_0 0 rfl rfl)
theorem dJ2_isLatin1_3 : decode cJ2_isLatin1 3 = .ok (.ifCond .eq 14, 3) := dk_153 0 14 (dk_at dksJ2_isLatin1_0 3 rfl rfl)
theorem dJ2_isLatin1_6 : decode cJ2_isLatin1 6 = .ok (.aload_n 0, 1) := dk_42 (dk_at dksJ2_isLatin1_0 6 rfl rfl)
theorem dJ2_isLatin1_7 : decode cJ2_isLatin1 7 = .ok (.getfield 15, 3) := dk_180 0 15 (dk_at dksJ2_isLatin1_0 7 rfl rfl)
theorem dJ2_isLatin1_10 : decode cJ2_isLatin1 10 = .ok (.ifCond .ne 7, 3) := dk_154 0 7 (dk_at dksJ2_isLatin1_0 10 rfl rfl)
theorem dJ2_isLatin1_13 : decode cJ2_isLatin1 13 = .ok (.iconst 1, 1) := dk_4 (dk_at dksJ2_isLatin1_0 13 rfl rfl)
theorem dJ2_isLatin1_14 : decode cJ2_isLatin1 14 = .ok (.goto 4, 3) := dk_167 0 4 (dk_at dksJ2_isLatin1_0 14 rfl rfl)
theorem dJ2_isLatin1_17 : decode cJ2_isLatin1 17 = .ok (.iconst 0, 1) := dk_3 (dk_at dksJ2_isLatin1_0 17 rfl rfl)
theorem dJ2_isLatin1_18 : decode cJ2_isLatin1 18 = .ok (.ireturn, 1) := dk_172 (dk_at dksJ2_isLatin1_0 18 rfl rfl)
def dkwJ2_checkIndex_0 : List UInt8 := [26, 27, 178, 4, 29, 184, 4, 35, 87, 177]
abbrev dktJ2_checkIndex_0 : List UInt8 := dkwJ2_checkIndex_0 ++ []
theorem dksJ2_checkIndex_0 : cJ2_checkIndex.data.toList.drop 0 = dktJ2_checkIndex_0 := by decide +kernel
theorem dJ2_checkIndex_0 : decode cJ2_checkIndex 0 = .ok (.iload_n 0, 1) := dk_26 (dk_at dksJ2_checkIndex_0 0 rfl rfl)
theorem dJ2_checkIndex_1 : decode cJ2_checkIndex 1 = .ok (.iload_n 1, 1) := dk_27 (dk_at dksJ2_checkIndex_0 1 rfl rfl)
theorem dJ2_checkIndex_2 : decode cJ2_checkIndex 2 = .ok (.getstatic 1053, 3) := dk_178 4 29 (dk_at dksJ2_checkIndex_0 2 rfl rfl)
theorem dJ2_checkIndex_5 : decode cJ2_checkIndex 5 = .ok (.invokestatic 1059, 3) := dk_184 4 35 (dk_at dksJ2_checkIndex_0 5 rfl rfl)
theorem dJ2_checkIndex_8 : decode cJ2_checkIndex 8 = .ok (.pop, 1) := dk_87 (dk_at dksJ2_checkIndex_0 8 rfl rfl)
theorem dJ2_checkIndex_9 : decode cJ2_checkIndex 9 = .ok (.return_, 1) := dk_177 (dk_at dksJ2_checkIndex_0 9 rfl rfl)
def dkwJ3_charAt_0 : List UInt8 := [27, 42, 190, 184, 0, 9, 42, 27, 51, 17, 0, 255, 126, 146, 172]
abbrev dktJ3_charAt_0 : List UInt8 := dkwJ3_charAt_0 ++ []
theorem dksJ3_charAt_0 : cJ3_charAt.data.toList.drop 0 = dktJ3_charAt_0 := by decide +kernel
theorem dJ3_charAt_0 : decode cJ3_charAt 0 = .ok (.iload_n 1, 1) := dk_27 (dk_at dksJ3_charAt_0 0 rfl rfl)
theorem dJ3_charAt_1 : decode cJ3_charAt 1 = .ok (.aload_n 0, 1) := dk_42 (dk_at dksJ3_charAt_0 1 rfl rfl)
theorem dJ3_charAt_2 : decode cJ3_charAt 2 = .ok (.arraylength, 1) := dk_190 (dk_at dksJ3_charAt_0 2 rfl rfl)
theorem dJ3_charAt_3 : decode cJ3_charAt 3 = .ok (.invokestatic 9, 3) := dk_184 0 9 (dk_at dksJ3_charAt_0 3 rfl rfl)
theorem dJ3_charAt_6 : decode cJ3_charAt 6 = .ok (.aload_n 0, 1) := dk_42 (dk_at dksJ3_charAt_0 6 rfl rfl)
theorem dJ3_charAt_7 : decode cJ3_charAt 7 = .ok (.iload_n 1, 1) := dk_27 (dk_at dksJ3_charAt_0 7 rfl rfl)
theorem dJ3_charAt_8 : decode cJ3_charAt 8 = .ok (.baload, 1) := dk_51 (dk_at dksJ3_charAt_0 8 rfl rfl)
theorem dJ3_charAt_9 : decode cJ3_charAt 9 = .ok (.sipush 255, 3) := dk_17 0 255 (dk_at dksJ3_charAt_0 9 rfl rfl)
theorem dJ3_charAt_12 : decode cJ3_charAt 12 = .ok (.iand, 1) := dk_126 (dk_at dksJ3_charAt_0 12 rfl rfl)
theorem dJ3_charAt_13 : decode cJ3_charAt 13 = .ok (.i2c, 1) := dk_146 (dk_at dksJ3_charAt_0 13 rfl rfl)
theorem dJ3_charAt_14 : decode cJ3_charAt 14 = .ok (.ireturn, 1) := dk_172 (dk_at dksJ3_charAt_0 14 rfl rfl)
def dkwJ4_checkIndex_0 : List UInt8 := [26, 155, 0, 8, 26, 27, 161, 0, 10, 44, 26, 27, 184, 0, 95, 191, 26, 172]
abbrev dktJ4_checkIndex_0 : List UInt8 := dkwJ4_checkIndex_0 ++ []
theorem dksJ4_checkIndex_0 : cJ4_checkIndex.data.toList.drop 0 = dktJ4_checkIndex_0 := by decide +kernel
theorem dJ4_checkIndex_0 : decode cJ4_checkIndex 0 = .ok (.iload_n 0, 1) := dk_26 (dk_at dksJ4_checkIndex_0 0 rfl rfl)
theorem dJ4_checkIndex_1 : decode cJ4_checkIndex 1 = .ok (.ifCond .lt 8, 3) := dk_155 0 8 (dk_at dksJ4_checkIndex_0 1 rfl rfl)
theorem dJ4_checkIndex_4 : decode cJ4_checkIndex 4 = .ok (.iload_n 0, 1) := dk_26 (dk_at dksJ4_checkIndex_0 4 rfl rfl)
theorem dJ4_checkIndex_5 : decode cJ4_checkIndex 5 = .ok (.iload_n 1, 1) := dk_27 (dk_at dksJ4_checkIndex_0 5 rfl rfl)
theorem dJ4_checkIndex_6 : decode cJ4_checkIndex 6 = .ok (.if_icmp .lt 10, 3) := dk_161 0 10 (dk_at dksJ4_checkIndex_0 6 rfl rfl)
theorem dJ4_checkIndex_9 : decode cJ4_checkIndex 9 = .ok (.aload_n 2, 1) := dk_44 (dk_at dksJ4_checkIndex_0 9 rfl rfl)
theorem dJ4_checkIndex_10 : decode cJ4_checkIndex 10 = .ok (.iload_n 0, 1) := dk_26 (dk_at dksJ4_checkIndex_0 10 rfl rfl)
theorem dJ4_checkIndex_11 : decode cJ4_checkIndex 11 = .ok (.iload_n 1, 1) := dk_27 (dk_at dksJ4_checkIndex_0 11 rfl rfl)
theorem dJ4_checkIndex_12 : decode cJ4_checkIndex 12 = .ok (.invokestatic 95, 3) := dk_184 0 95 (dk_at dksJ4_checkIndex_0 12 rfl rfl)
theorem dJ4_checkIndex_15 : decode cJ4_checkIndex 15 = .ok (.athrow, 1) := dk_191 (dk_at dksJ4_checkIndex_0 15 rfl rfl)
theorem dJ4_checkIndex_16 : decode cJ4_checkIndex 16 = .ok (.iload_n 0, 1) := dk_26 (dk_at dksJ4_checkIndex_0 16 rfl rfl)
theorem dJ4_checkIndex_17 : decode cJ4_checkIndex 17 = .ok (.ireturn, 1) := dk_172 (dk_at dksJ4_checkIndex_0 17 rfl rfl)
def dkwX9_init_0 : List UInt8 := [42, 1, 1, 3, 3, 183, 0, 1, 42, 27, 181, 0, 7, 42, 28, 181, 0, 13, 177]
abbrev dktX9_init_0 : List UInt8 := dkwX9_init_0 ++ []
theorem dksX9_init_0 : cX9_init.data.toList.drop 0 = dktX9_init_0 := by decide +kernel
theorem dX9_init_0 : decode cX9_init 0 = .ok (.aload_n 0, 1) := dk_42 (dk_at dksX9_init_0 0 rfl rfl)
theorem dX9_init_1 : decode cX9_init 1 = .ok (.aconst_null, 1) := dk_1 (dk_at dksX9_init_0 1 rfl rfl)
theorem dX9_init_2 : decode cX9_init 2 = .ok (.aconst_null, 1) := dk_1 (dk_at dksX9_init_0 2 rfl rfl)
theorem dX9_init_3 : decode cX9_init 3 = .ok (.iconst 0, 1) := dk_3 (dk_at dksX9_init_0 3 rfl rfl)
theorem dX9_init_4 : decode cX9_init 4 = .ok (.iconst 0, 1) := dk_3 (dk_at dksX9_init_0 4 rfl rfl)
theorem dX9_init_5 : decode cX9_init 5 = .ok (.invokespecial 1, 3) := dk_183 0 1 (dk_at dksX9_init_0 5 rfl rfl)
theorem dX9_init_8 : decode cX9_init 8 = .ok (.aload_n 0, 1) := dk_42 (dk_at dksX9_init_0 8 rfl rfl)
theorem dX9_init_9 : decode cX9_init 9 = .ok (.iload_n 1, 1) := dk_27 (dk_at dksX9_init_0 9 rfl rfl)
theorem dX9_init_10 : decode cX9_init 10 = .ok (.putfield 7, 3) := dk_181 0 7 (dk_at dksX9_init_0 10 rfl rfl)
theorem dX9_init_13 : decode cX9_init 13 = .ok (.aload_n 0, 1) := dk_42 (dk_at dksX9_init_0 13 rfl rfl)
theorem dX9_init_14 : decode cX9_init 14 = .ok (.iload_n 2, 1) := dk_28 (dk_at dksX9_init_0 14 rfl rfl)
theorem dX9_init_15 : decode cX9_init 15 = .ok (.putfield 13, 3) := dk_181 0 13 (dk_at dksX9_init_0 15 rfl rfl)
theorem dX9_init_18 : decode cX9_init 18 = .ok (.return_, 1) := dk_177 (dk_at dksX9_init_0 18 rfl rfl)
def chJ (i : Nat) (x : Int32) : Int32 := ((bytJ.getD i []).getD x.toNatClampNeg 0) &&& 255
theorem ix_ge {x : Int32} {n : Nat} (h : vp_in x n) : ¬ x < 0 := fun q => h (Or.inl q)
theorem ix_lt {x : Int32} {n : Nat} (h : vp_in x n) (hn : n < 2 ^ 31) : x < nI n := by
  obtain ⟨j, hj, rfl⟩ := vp_in_of h hn
  exact nI_lt hj hn
theorem lenJ_lt (i : Nat) : lenJ.getD i 0 < 2 ^ 31 := by
  by_cases h : i < 13
  · have h2 : ∀ i, i < 13 → lenJ.getD i 0 < 2 ^ 31 := by decide
    exact h2 i h
  · have : lenJ.getD i 0 = 0 := by rw [List.getD_eq_getElem?_getD, List.getElem?_eq_none (by show 13 ≤ i; omega)]; rfl
    rw [this]; decide
abbrev rm_S_coder : Room := { frames := 1, cells := 0, slots := 0, locals := 0 }
set_option maxHeartbeats 4000000 in
theorem met_S_coder (l : Launch) (D : va_G) (ca : Nat → ClassId) (sk sv : Nat → Nat) (sz : Nat) (i : Nat) (hi : i < 13) : Met l yJ2_coder (ws_ yJ2_coder cJ2_coder 1 (some .byte)) rm_S_coder (va_Pc [.ref (sk i)] (wpreE D vwCl (tyL ca) sk sv ([] : va_W) sz)) (va_Qi (fun (r : Int32) (u : Unit) => r = 0) (wpost D vwCl (va_A ([] : va_W) sz) (fun (_ : Unit) => ([] : va_W))) (va_A ([] : va_W) sz)) 0 0 (va_A ([] : va_W) sz) := by
  refine met_ofE (fun A => (va_Qi (fun (r : Int32) (u : Unit) => r = 0) (wpost D vwCl A (fun (_ : Unit) => ([] : va_W))) A)) (by decide) (Nat.le_of_ble_eq_true rfl) ?_
  intro p e s m args below meth c Z A hZ C hE hmn H locs hP hD hS ls hl
  have hx := C.1; have hb := C.2.1; have hr := C.2.2.1; have hlocks := C.2.2.2.1; have hml := C.2.2.2.2.1; have hown := C.2.2.2.2.2.1; have hts := C.2.2.2.2.2.2.1; have hn := C.2.2.2.2.2.2.2.1; have hK := C.2.2.2.2.2.2.2.2.1; have hA := C.2.2.2.2.2.2.2.2.2
  have hl : lv_has ls 1 [(0, .ref (sk i))] := hl
  refine va_gets hx hb hE.2.2.1 hS hown (hts _ q472) (fun _ h => h) dJ2_coder_0 ?_
  refine lv_if_eq (tgt := 13) hx hb dJ2_coder_3 (by decide) (fun c1 => absurd c1 (by decide)) (fun c1 => ?_)
  refine lv_aload_n hx hb dJ2_coder_6 rfl (lv_at hl 0 rfl) ?_
  refine vk_getf hx hb (hE.1.1 i hi).2.1 hS hown (hts _ q1364) (fun _ h => h) dJ2_coder_7 ?_
  refine lv_goto (tgt := 14) hx hb dJ2_coder_10 (by decide) ?_
  rw [hZ]
  exact W.zret hx hb hr rfl (fun t ht hW => ⟨⟨0, (), rfl, rfl, by rw [ht]; exact hP, hD⟩, hS.F ht⟩) hS.2.2 dJ2_coder_14 hlocks

abbrev rm_S_length : Room := { frames := 2, cells := 0, slots := 0, locals := 20 }
set_option maxHeartbeats 4000000 in
theorem met_S_length (l : Launch) (D : va_G) (ca : Nat → ClassId) (sk sv : Nat → Nat) (sz : Nat) (i : Nat) (hi : i < 13) : Met l yJ2_length (ws_ yJ2_length cJ2_length 1 (some .int)) rm_S_length (va_Pc [.ref (sk i)] (wpreE D vwCl (tyL ca) sk sv ([] : va_W) sz)) (va_Qi (fun (r : Int32) (u : Unit) => r = nI (lenJ.getD i 0)) (wpost D vwCl (va_A ([] : va_W) sz) (fun (_ : Unit) => ([] : va_W))) (va_A ([] : va_W) sz)) 0 0 (va_A ([] : va_W) sz) := by
  refine met_ofE (fun A => (va_Qi (fun (r : Int32) (u : Unit) => r = nI (lenJ.getD i 0)) (wpost D vwCl A (fun (_ : Unit) => ([] : va_W))) A)) (by decide) (Nat.le_of_ble_eq_true rfl) ?_
  intro p e s m args below meth c Z A hZ C hE hmn H locs hP hD hS ls hl
  have hx := C.1; have hb := C.2.1; have hr := C.2.2.1; have hlocks := C.2.2.2.1; have hml := C.2.2.2.2.1; have hown := C.2.2.2.2.2.1; have hts := C.2.2.2.2.2.2.1; have hn := C.2.2.2.2.2.2.2.1; have hK := C.2.2.2.2.2.2.2.2.1; have hA := C.2.2.2.2.2.2.2.2.2
  have hl : lv_has ls 1 [(0, .ref (sk i))] := hl
  refine lv_aload_n hx hb dJ2_length_0 rfl (lv_at hl 0 rfl) ?_
  refine vk_getf hx hb (hE.1.1 i hi).2.2.1 hS hown (hts _ q1363) (fun _ h => h) dJ2_length_1 ?_
  refine va_tlen hx hb (hE.1.1 i hi).2.2.2 hS (v := nI (lenJ.getD i 0)) rfl dJ2_length_4 ?_
  refine lv_aload_n hx hb dJ2_length_5 rfl (lv_at hl 0 rfl) ?_
  refine wcE_Kik (As := []) (rest := [.int (nI (lenJ.getD i 0))]) C hE (met_S_coder l D ca sk sv H.size i hi) (cwV 0 hts (lw_V q468 q469 q470 q80 q471) rfl rfl rfl (by decide +kernel) ⟨Nat.le_of_ble_eq_true rfl, Nat.le_of_ble_eq_true rfl⟩) hP hD hS [] rfl rfl i hi rfl rfl rfl hl.1 (Nat.le_of_ble_eq_true rfl) dJ2_length_6 ⟨Nat.le_of_ble_eq_true rfl, Nat.le_of_ble_eq_true rfl⟩ (fun r u H locs hr2 hP hD hS => ?_)
  subst hr2
  refine lv_ishr hx hb dJ2_length_9 ?_
  rw [hZ]
  exact W.iret hx hb hr (fun t ht hW => ⟨⟨_, (), rfl, sb_shr0 _, by rw [ht]; exact hP, hD⟩, hS.F ht⟩) hS.2.2 dJ2_length_10 hlocks

abbrev rm_S_isLatin1 : Room := { frames := 1, cells := 0, slots := 0, locals := 0 }
set_option maxHeartbeats 4000000 in
theorem met_S_isLatin1 (l : Launch) (D : va_G) (ca : Nat → ClassId) (sk sv : Nat → Nat) (sz : Nat) (i : Nat) (hi : i < 13) : Met l yJ2_isLatin1 (ws_ yJ2_isLatin1 cJ2_isLatin1 1 (some .boolean)) rm_S_isLatin1 (va_Pc [.ref (sk i)] (wpreE D vwCl (tyL ca) sk sv ([] : va_W) sz)) (va_Qi (fun (r : Int32) (u : Unit) => r = 1) (wpost D vwCl (va_A ([] : va_W) sz) (fun (_ : Unit) => ([] : va_W))) (va_A ([] : va_W) sz)) 0 0 (va_A ([] : va_W) sz) := by
  refine met_ofE (fun A => (va_Qi (fun (r : Int32) (u : Unit) => r = 1) (wpost D vwCl A (fun (_ : Unit) => ([] : va_W))) A)) (by decide) (Nat.le_of_ble_eq_true rfl) ?_
  intro p e s m args below meth c Z A hZ C hE hmn H locs hP hD hS ls hl
  have hx := C.1; have hb := C.2.1; have hr := C.2.2.1; have hlocks := C.2.2.2.1; have hml := C.2.2.2.2.1; have hown := C.2.2.2.2.2.1; have hts := C.2.2.2.2.2.2.1; have hn := C.2.2.2.2.2.2.2.1; have hK := C.2.2.2.2.2.2.2.2.1; have hA := C.2.2.2.2.2.2.2.2.2
  have hl : lv_has ls 1 [(0, .ref (sk i))] := hl
  refine va_gets hx hb hE.2.2.1 hS hown (hts _ q472) (fun _ h => h) dJ2_isLatin1_0 ?_
  refine lv_if_eq (tgt := 17) hx hb dJ2_isLatin1_3 (by decide) (fun c1 => absurd c1 (by decide)) (fun c1 => ?_)
  refine lv_aload_n hx hb dJ2_isLatin1_6 rfl (lv_at hl 0 rfl) ?_
  refine vk_getf hx hb (hE.1.1 i hi).2.1 hS hown (hts _ q1364) (fun _ h => h) dJ2_isLatin1_7 ?_
  refine lv_if_ne (tgt := 17) hx hb dJ2_isLatin1_10 (by decide) (fun c1 => absurd rfl c1) (fun c1 => ?_)
  refine lv_iconst (v := 1) hx hb dJ2_isLatin1_13 (by decide) ?_
  refine lv_goto (tgt := 18) hx hb dJ2_isLatin1_14 (by decide) ?_
  rw [hZ]
  exact W.zret hx hb hr rfl (fun t ht hW => ⟨⟨1, (), rfl, rfl, by rw [ht]; exact hP, hD⟩, hS.F ht⟩) hS.2.2 dJ2_isLatin1_18 hlocks

abbrev rm_P_checkIndexN : Room := { frames := 1, cells := 0, slots := 0, locals := 0 }
set_option maxHeartbeats 4000000 in
theorem met_P_checkIndexN (l : Launch) (D : va_G) (ca : Nat → ClassId) (sk sv : Nat → Nat) (sz : Nat) (x n : Int32) (h1 : ¬ x < 0) (h2 : x < n) : Met l yJ4_checkIndex (ws_ yJ4_checkIndex cJ4_checkIndex 3 (some .int)) rm_P_checkIndexN (va_Pc [.int x, .int n, .null] (wpreE D vwCl (tyL ca) sk sv ([] : va_W) sz)) (va_Qi (fun (r : Int32) (u : Unit) => r = x) (wpost D vwCl (va_A ([] : va_W) sz) (fun (_ : Unit) => ([] : va_W))) (va_A ([] : va_W) sz)) 0 0 (va_A ([] : va_W) sz) := by
  refine met_ofE (fun A => (va_Qi (fun (r : Int32) (u : Unit) => r = x) (wpost D vwCl A (fun (_ : Unit) => ([] : va_W))) A)) (by decide) (Nat.le_of_ble_eq_true rfl) ?_
  intro p e s m args below meth c Z A hZ C hE hmn H locs hP hD hS ls hl
  have hx := C.1; have hb := C.2.1; have hr := C.2.2.1; have hlocks := C.2.2.2.1; have hml := C.2.2.2.2.1; have hown := C.2.2.2.2.2.1; have hts := C.2.2.2.2.2.2.1; have hn := C.2.2.2.2.2.2.2.1; have hK := C.2.2.2.2.2.2.2.2.1; have hA := C.2.2.2.2.2.2.2.2.2
  have hl : lv_has ls 3 [(0, .int x), (1, .int n), (2, .null)] := hl
  refine lv_iload_n hx hb dJ4_checkIndex_0 rfl (lv_at hl 0 rfl) ?_
  refine lv_if_lt (tgt := 9) hx hb dJ4_checkIndex_1 (by decide) (fun c1 => absurd c1 h1) (fun c1 => ?_)
  refine lv_iload_n hx hb dJ4_checkIndex_4 rfl (lv_at hl 0 rfl) ?_
  refine lv_iload_n hx hb dJ4_checkIndex_5 rfl (lv_at hl 1 rfl) ?_
  refine lv_icmp_lt (tgt := 16) hx hb dJ4_checkIndex_6 (by decide) (fun c1 => ?_) (fun c1 => absurd h2 c1)
  refine lv_iload_n hx hb dJ4_checkIndex_16 rfl (lv_at hl 0 rfl) ?_
  rw [hZ]
  exact W.iret hx hb hr (fun t ht hW => ⟨⟨x, (), rfl, rfl, by rw [ht]; exact hP, hD⟩, hS.F ht⟩) hS.2.2 dJ4_checkIndex_17 hlocks

abbrev rm_P_checkIndexR : Room := { frames := 1, cells := 0, slots := 0, locals := 0 }
set_option maxHeartbeats 4000000 in
theorem met_P_checkIndexR (l : Launch) (D : va_G) (ca : Nat → ClassId) (sk sv : Nat → Nat) (sz : Nat) (x n : Int32) (t : Nat) (h1 : ¬ x < 0) (h2 : x < n) : Met l yJ4_checkIndex (ws_ yJ4_checkIndex cJ4_checkIndex 3 (some .int)) rm_P_checkIndexR (va_Pc [.int x, .int n, .ref t] (wpreE D vwCl (tyL ca) sk sv ([] : va_W) sz)) (va_Qi (fun (r : Int32) (u : Unit) => r = x) (wpost D vwCl (va_A ([] : va_W) sz) (fun (_ : Unit) => ([] : va_W))) (va_A ([] : va_W) sz)) 0 0 (va_A ([] : va_W) sz) := by
  refine met_ofE (fun A => (va_Qi (fun (r : Int32) (u : Unit) => r = x) (wpost D vwCl A (fun (_ : Unit) => ([] : va_W))) A)) (by decide) (Nat.le_of_ble_eq_true rfl) ?_
  intro p e s m args below meth c Z A hZ C hE hmn H locs hP hD hS ls hl
  have hx := C.1; have hb := C.2.1; have hr := C.2.2.1; have hlocks := C.2.2.2.1; have hml := C.2.2.2.2.1; have hown := C.2.2.2.2.2.1; have hts := C.2.2.2.2.2.2.1; have hn := C.2.2.2.2.2.2.2.1; have hK := C.2.2.2.2.2.2.2.2.1; have hA := C.2.2.2.2.2.2.2.2.2
  have hl : lv_has ls 3 [(0, .int x), (1, .int n), (2, .ref t)] := hl
  refine lv_iload_n hx hb dJ4_checkIndex_0 rfl (lv_at hl 0 rfl) ?_
  refine lv_if_lt (tgt := 9) hx hb dJ4_checkIndex_1 (by decide) (fun c1 => absurd c1 h1) (fun c1 => ?_)
  refine lv_iload_n hx hb dJ4_checkIndex_4 rfl (lv_at hl 0 rfl) ?_
  refine lv_iload_n hx hb dJ4_checkIndex_5 rfl (lv_at hl 1 rfl) ?_
  refine lv_icmp_lt (tgt := 16) hx hb dJ4_checkIndex_6 (by decide) (fun c1 => ?_) (fun c1 => absurd h2 c1)
  refine lv_iload_n hx hb dJ4_checkIndex_16 rfl (lv_at hl 0 rfl) ?_
  rw [hZ]
  exact W.iret hx hb hr (fun t ht hW => ⟨⟨x, (), rfl, rfl, by rw [ht]; exact hP, hD⟩, hS.F ht⟩) hS.2.2 dJ4_checkIndex_17 hlocks

abbrev rm_S_checkIndex : Room := { frames := 2, cells := 0, slots := 0, locals := 22 }
set_option maxHeartbeats 4000000 in
theorem met_S_checkIndex (l : Launch) (D : va_G) (ca : Nat → ClassId) (sk sv : Nat → Nat) (sz : Nat) (x n : Int32) (h1 : ¬ x < 0) (h2 : x < n) : Met l yJ2_checkIndex (ws_ yJ2_checkIndex cJ2_checkIndex 2 none) rm_S_checkIndex (va_Pc [.int x, .int n] (wpreE D vwCl (tyL ca) sk sv ([] : va_W) sz)) (va_Qv (fun (u : Unit) => True) (wpost D vwCl (va_A ([] : va_W) sz) (fun (_ : Unit) => ([] : va_W))) (va_A ([] : va_W) sz)) 0 0 (va_A ([] : va_W) sz) := by
  refine met_ofE (fun A => (va_Qv (fun (u : Unit) => True) (wpost D vwCl A (fun (_ : Unit) => ([] : va_W))) A)) (by decide) (Nat.le_of_ble_eq_true rfl) ?_
  intro p e s m args below meth c Z A hZ C hE hmn H locs hP hD hS ls hl
  have hx := C.1; have hb := C.2.1; have hr := C.2.2.1; have hlocks := C.2.2.2.1; have hml := C.2.2.2.2.1; have hown := C.2.2.2.2.2.1; have hts := C.2.2.2.2.2.2.1; have hn := C.2.2.2.2.2.2.2.1; have hK := C.2.2.2.2.2.2.2.2.1; have hA := C.2.2.2.2.2.2.2.2.2
  have hl : lv_has ls 2 [(0, .int x), (1, .int n)] := hl
  refine lv_iload_n hx hb dJ2_checkIndex_0 rfl (lv_at hl 0 rfl) ?_
  refine lv_iload_n hx hb dJ2_checkIndex_1 rfl (lv_at hl 1 rfl) ?_
  rcases hE.2.2.2.1 with hz | ⟨t, hz⟩
  · refine va_gets hx hb hz hS hown (hts _ q488) (fun _ h => h) dJ2_checkIndex_2 ?_
    refine wcE_Sik (As := [.int x, .int n, .null]) (rest := []) C hE (met_P_checkIndexN l D ca sk sv H.size x n h1 h2) (va_cwS 3 hts (lw_S q490 q491 q82 q492) rfl rfl rfl (by decide +kernel) ⟨Nat.le_of_ble_eq_true rfl, Nat.le_of_ble_eq_true rfl⟩) hP hD hS [] rfl rfl rfl rfl hl.1 (Nat.le_of_ble_eq_true rfl) dJ2_checkIndex_5 ⟨Nat.le_of_ble_eq_true rfl, Nat.le_of_ble_eq_true rfl⟩ (fun r u H locs hr2 hP hD hS => ?_)
    subst hr2
    refine lv_pop hx hb dJ2_checkIndex_8 rfl ?_
    rw [hZ]
    exact W.vret hx hb hr (fun t ht hW => ⟨⟨(), rfl, trivial, by rw [ht]; exact hP, hD⟩, hS.F ht⟩) hS.2.2 dJ2_checkIndex_9 hlocks
  · refine va_gets hx hb hz hS hown (hts _ q488) (fun _ h => h) dJ2_checkIndex_2 ?_
    refine wcE_Sik (As := [.int x, .int n, .ref t]) (rest := []) C hE (met_P_checkIndexR l D ca sk sv H.size x n t h1 h2) (va_cwS 3 hts (lw_S q490 q491 q82 q492) rfl rfl rfl (by decide +kernel) ⟨Nat.le_of_ble_eq_true rfl, Nat.le_of_ble_eq_true rfl⟩) hP hD hS [] rfl rfl rfl rfl hl.1 (Nat.le_of_ble_eq_true rfl) dJ2_checkIndex_5 ⟨Nat.le_of_ble_eq_true rfl, Nat.le_of_ble_eq_true rfl⟩ (fun r u H locs hr2 hP hD hS => ?_)
    subst hr2
    refine lv_pop hx hb dJ2_checkIndex_8 rfl ?_
    rw [hZ]
    exact W.vret hx hb hr (fun t ht hW => ⟨⟨(), rfl, trivial, by rw [ht]; exact hP, hD⟩, hS.F ht⟩) hS.2.2 dJ2_checkIndex_9 hlocks

abbrev rm_S_latinCharAt : Room := { frames := 3, cells := 0, slots := 0, locals := 50 }
set_option maxHeartbeats 4000000 in
theorem met_S_latinCharAt (l : Launch) (D : va_G) (ca : Nat → ClassId) (sk sv : Nat → Nat) (sz : Nat) (i : Nat) (x : Int32) (hi : i < 13) (hin : vp_in x (lenJ.getD i 0)) : Met l yJ3_charAt (ws_ yJ3_charAt cJ3_charAt 2 (some .char)) rm_S_latinCharAt (va_Pc [.ref (sv i), .int x] (wpreE D vwCl (tyL ca) sk sv ([] : va_W) sz)) (va_Qi (fun (r : Int32) (u : Unit) => r = chJ i x) (wpost D vwCl (va_A ([] : va_W) sz) (fun (_ : Unit) => ([] : va_W))) (va_A ([] : va_W) sz)) 0 0 (va_A ([] : va_W) sz) := by
  refine met_ofE (fun A => (va_Qi (fun (r : Int32) (u : Unit) => r = chJ i x) (wpost D vwCl A (fun (_ : Unit) => ([] : va_W))) A)) (by decide) (Nat.le_of_ble_eq_true rfl) ?_
  intro p e s m args below meth c Z A hZ C hE hmn H locs hP hD hS ls hl
  have hx := C.1; have hb := C.2.1; have hr := C.2.2.1; have hlocks := C.2.2.2.1; have hml := C.2.2.2.2.1; have hown := C.2.2.2.2.2.1; have hts := C.2.2.2.2.2.2.1; have hn := C.2.2.2.2.2.2.2.1; have hK := C.2.2.2.2.2.2.2.2.1; have hA := C.2.2.2.2.2.2.2.2.2
  have hl : lv_has ls 2 [(0, .ref (sv i)), (1, .int x)] := hl
  refine lv_iload_n hx hb dJ3_charAt_0 rfl (lv_at hl 1 rfl) ?_
  refine lv_aload_n hx hb dJ3_charAt_1 rfl (lv_at hl 0 rfl) ?_
  refine va_tlen hx hb (hE.1.1 i hi).2.2.2 hS (v := nI (lenJ.getD i 0)) rfl dJ3_charAt_2 ?_
  refine wcE_Svk (As := [.int x, .int (nI (lenJ.getD i 0))]) (rest := []) C hE (met_S_checkIndex l D ca sk sv H.size x (nI (lenJ.getD i 0)) (ix_ge hin) (ix_lt hin (lenJ_lt i))) (va_cwS 2 hts (lw_S q485 q486 q80 q487) rfl rfl rfl (by decide +kernel) ⟨Nat.le_of_ble_eq_true rfl, Nat.le_of_ble_eq_true rfl⟩) hP hD hS [] rfl rfl rfl rfl hl.1 (Nat.le_of_ble_eq_true rfl) dJ3_charAt_3 ⟨Nat.le_of_ble_eq_true rfl, Nat.le_of_ble_eq_true rfl⟩ (fun u H locs hr2 hP hD hS => ?_)
  refine lv_aload_n hx hb dJ3_charAt_6 rfl (lv_at hl 0 rfl) ?_
  refine lv_iload_n hx hb dJ3_charAt_7 rfl (lv_at hl 1 rfl) ?_
  refine va_tb hx hb (hE.1.1 i hi).2.2.2 hS hin rfl dJ3_charAt_8 ?_
  refine lv_sipush (v := 255) hx hb dJ3_charAt_9 (by decide) ?_
  refine lv_iand hx hb dJ3_charAt_12 ?_
  refine lv_i2c hx hb dJ3_charAt_13 (sc_c2 _) ?_
  rw [hZ]
  exact W.zret hx hb hr (sc_nar _) (fun t ht hW => ⟨⟨_, (), rfl, rfl, by rw [ht]; exact hP, hD⟩, hS.F ht⟩) hS.2.2 dJ3_charAt_14 hlocks

abbrev rm_S_charAt : Room := { frames := 4, cells := 0, slots := 0, locals := 75 }
set_option maxHeartbeats 4000000 in
theorem met_S_charAt (l : Launch) (D : va_G) (ca : Nat → ClassId) (sk sv : Nat → Nat) (sz : Nat) (i : Nat) (x : Int32) (hi : i < 13) (hin : vp_in x (lenJ.getD i 0)) : Met l yJ2_charAt (ws_ yJ2_charAt cJ2_charAt 2 (some .char)) rm_S_charAt (va_Pc [.ref (sk i), .int x] (wpreE D vwCl (tyL ca) sk sv ([] : va_W) sz)) (va_Qi (fun (r : Int32) (u : Unit) => r = chJ i x) (wpost D vwCl (va_A ([] : va_W) sz) (fun (_ : Unit) => ([] : va_W))) (va_A ([] : va_W) sz)) 0 0 (va_A ([] : va_W) sz) := by
  refine met_ofE (fun A => (va_Qi (fun (r : Int32) (u : Unit) => r = chJ i x) (wpost D vwCl A (fun (_ : Unit) => ([] : va_W))) A)) (by decide) (Nat.le_of_ble_eq_true rfl) ?_
  intro p e s m args below meth c Z A hZ C hE hmn H locs hP hD hS ls hl
  have hx := C.1; have hb := C.2.1; have hr := C.2.2.1; have hlocks := C.2.2.2.1; have hml := C.2.2.2.2.1; have hown := C.2.2.2.2.2.1; have hts := C.2.2.2.2.2.2.1; have hn := C.2.2.2.2.2.2.2.1; have hK := C.2.2.2.2.2.2.2.2.1; have hA := C.2.2.2.2.2.2.2.2.2
  have hl : lv_has ls 2 [(0, .ref (sk i)), (1, .int x)] := hl
  refine lv_aload_n hx hb dJ2_charAt_0 rfl (lv_at hl 0 rfl) ?_
  refine wcE_Kik (As := []) (rest := []) C hE (met_S_isLatin1 l D ca sk sv H.size i hi) (cwV 0 hts (lw_V q478 q479 q480 q80 q481) rfl rfl rfl (by decide +kernel) ⟨Nat.le_of_ble_eq_true rfl, Nat.le_of_ble_eq_true rfl⟩) hP hD hS [] rfl rfl i hi rfl rfl rfl hl.1 (Nat.le_of_ble_eq_true rfl) dJ2_charAt_1 ⟨Nat.le_of_ble_eq_true rfl, Nat.le_of_ble_eq_true rfl⟩ (fun r u H locs hr2 hP hD hS => ?_)
  subst hr2
  refine lv_if_eq (tgt := 16) hx hb dJ2_charAt_4 (by decide) (fun c1 => absurd c1 (by decide)) (fun c1 => ?_)
  refine lv_aload_n hx hb dJ2_charAt_7 rfl (lv_at hl 0 rfl) ?_
  refine vk_getf hx hb (hE.1.1 i hi).2.2.1 hS hown (hts _ q1363) (fun _ h => h) dJ2_charAt_8 ?_
  refine lv_iload_n hx hb dJ2_charAt_11 rfl (lv_at hl 1 rfl) ?_
  refine wcE_Sik (As := [.ref (sv i), .int x]) (rest := []) C hE (met_S_latinCharAt l D ca sk sv H.size i x hi hin) (va_cwS 2 hts (lw_S q482 q483 q81 q484) rfl rfl rfl (by decide +kernel) ⟨Nat.le_of_ble_eq_true rfl, Nat.le_of_ble_eq_true rfl⟩) hP hD hS [] rfl rfl rfl rfl hl.1 (Nat.le_of_ble_eq_true rfl) dJ2_charAt_12 ⟨Nat.le_of_ble_eq_true rfl, Nat.le_of_ble_eq_true rfl⟩ (fun r u H locs hr2 hP hD hS => ?_)
  subst hr2
  rw [hZ]
  exact W.zret hx hb hr (sc_nar _) (fun t ht hW => ⟨⟨_, (), rfl, rfl, by rw [ht]; exact hP, hD⟩, hS.F ht⟩) hS.2.2 dJ2_charAt_15 hlocks

abbrev rm_T_init : Room := { frames := 2, cells := 0, slots := 0, locals := 40 }
set_option maxHeartbeats 4000000 in
theorem met_T_init (l : Launch) (D : va_G) (ca : Nat → ClassId) (sk sv : Nat → Nat) (sz : Nat) (q : Nat) (x y : Int32)  : Met l yJ0_init_2 (ws_ yJ0_init_2 cJ0_init_2 5 none) rm_T_init (va_Pc [.ref q, .null, .null, .int 0, .int 0] (wpreE D vwCl (tyL ca) sk sv [(q, .inr (9, [.null, .null, .null, .null, .null, .int 0, .int x, .int y]))] sz)) (va_Qv (fun (u : Unit) => True) (wpost D vwCl (va_A [(q, .inr (9, [.null, .null, .null, .null, .null, .int 0, .int x, .int y]))] sz) (fun (_ : Unit) => [(q, .inr (9, [.null, .null, .null, .null, .null, .int 0, .int x, .int y]))])) (va_A [(q, .inr (9, [.null, .null, .null, .null, .null, .int 0, .int x, .int y]))] sz)) 0 0 (va_A [(q, .inr (9, [.null, .null, .null, .null, .null, .int 0, .int x, .int y]))] sz) := by
  refine met_ofE (fun A => (va_Qv (fun (u : Unit) => True) (wpost D vwCl A (fun (_ : Unit) => [(q, .inr (9, [.null, .null, .null, .null, .null, .int 0, .int x, .int y]))])) A)) (by decide) (Nat.le_of_ble_eq_true rfl) ?_
  intro p e s m args below meth c Z A hZ C hE hmn H locs hP hD hS ls hl
  have hx := C.1; have hb := C.2.1; have hr := C.2.2.1; have hlocks := C.2.2.2.1; have hml := C.2.2.2.2.1; have hown := C.2.2.2.2.2.1; have hts := C.2.2.2.2.2.2.1; have hn := C.2.2.2.2.2.2.2.1; have hK := C.2.2.2.2.2.2.2.2.1; have hA := C.2.2.2.2.2.2.2.2.2
  have hl : lv_has ls 5 [(0, .ref q), (1, .null), (2, .null), (3, .int 0), (4, .int 0)] := hl
  refine lv_aload_n hx hb dJ0_init_2_0 rfl (lv_at hl 0 rfl) ?_
  refine W.objInit hx hb hown (hts _ q326) (hts _ q99) (hts _ q100) rfl (by rw [hml]; exact hl.1) rfl dJ0_init_2_1 (Nat.le_of_ble_eq_true rfl) (Nat.le_of_ble_eq_true rfl) ?_
  refine W.eq (g2 := F0 m 4 ls []) rfl ?_
  refine lv_aload_n hx hb dJ0_init_2_4 rfl (lv_at hl 0 rfl) ?_
  refine lv_aload_n hx hb dJ0_init_2_5 rfl (lv_at hl 0 rfl) ?_
  refine va_put hx hb hts in_X9 tyX9 tyX9_ok nmX9 hown hK hP hD hS 0 rfl rfl 0 (by decide) (hts _ q372) (fun _ h => h) rfl (tyX9_ok 0 (by decide)) rfl rfl (Nat.le_of_ble_eq_true rfl) dJ0_init_2_6 (fun H locs hP hD hS => ?_)
  have hP : va_P D vwCl [(q, .inr (9, [.ref q, .null, .null, .null, .null, .int 0, .int x, .int y]))] H := hP
  have hD : va_D A [(q, .inr (9, [.ref q, .null, .null, .null, .null, .int 0, .int x, .int y]))] := hD
  refine lv_aload_n hx hb dJ0_init_2_9 rfl (lv_at hl 0 rfl) ?_
  obtain ⟨r1, hz1⟩ : ∃ r : Option Nat, va_Z "java/lang/Throwable" "UNASSIGNED_STACK" "[Ljava/lang/StackTraceElement;" (va_rf r) A s s.heap := by
    rcases hE.2.2.2.2.1.1 with h | ⟨t, h⟩
    · exact ⟨none, h⟩
    · exact ⟨some t, h⟩
  refine va_gets hx hb hz1 hS hown (hts _ q327) (fun _ h => h) dJ0_init_2_10 ?_
  refine va_put hx hb hts in_X9 tyX9 tyX9_ok nmX9 hown hK hP hD hS 0 rfl rfl 1 (by decide) (hts _ q373) (fun _ h => h) rfl (tyX9_ok 1 (by decide)) (by cases r1 <;> rfl) (by cases r1 <;> rfl) (Nat.le_of_ble_eq_true rfl) dJ0_init_2_13 (fun H locs hP hD hS => ?_)
  have hP : va_P D vwCl [(q, .inr (9, [.ref q, va_rf r1, .null, .null, .null, .int 0, .int x, .int y]))] H := hP
  have hD : va_D A [(q, .inr (9, [.ref q, va_rf r1, .null, .null, .null, .int 0, .int x, .int y]))] := hD
  refine lv_aload_n hx hb dJ0_init_2_16 rfl (lv_at hl 0 rfl) ?_
  obtain ⟨r2, hz2⟩ : ∃ r : Option Nat, va_Z "java/lang/Throwable" "SUPPRESSED_SENTINEL" "Ljava/util/List;" (va_rf r) A s s.heap := by
    rcases hE.2.2.2.2.2.1 with h | ⟨t, h⟩
    · exact ⟨none, h⟩
    · exact ⟨some t, h⟩
  refine va_gets hx hb hz2 hS hown (hts _ q329) (fun _ h => h) dJ0_init_2_17 ?_
  refine va_put hx hb hts in_X9 tyX9 tyX9_ok nmX9 hown hK hP hD hS 0 rfl rfl 2 (by decide) (hts _ q374) (fun _ h => h) rfl (tyX9_ok 2 (by decide)) (by cases r2 <;> rfl) (by cases r2 <;> rfl) (Nat.le_of_ble_eq_true rfl) dJ0_init_2_20 (fun H locs hP hD hS => ?_)
  have hP : va_P D vwCl [(q, .inr (9, [.ref q, va_rf r1, va_rf r2, .null, .null, .int 0, .int x, .int y]))] H := hP
  have hD : va_D A [(q, .inr (9, [.ref q, va_rf r1, va_rf r2, .null, .null, .int 0, .int x, .int y]))] := hD
  refine lv_iload hx hb dJ0_init_2_23 (lv_at hl 4 rfl) ?_
  refine lv_if_eq (tgt := 36) hx hb dJ0_init_2_25 (by decide) (fun c1 => ?_) (fun c1 => absurd rfl c1)
  refine lv_aload_n hx hb dJ0_init_2_36 rfl (lv_at hl 0 rfl) ?_
  refine lv_null hx hb dJ0_init_2_37 ?_
  refine va_put hx hb hts in_X9 tyX9 tyX9_ok nmX9 hown hK hP hD hS 0 rfl rfl 1 (by decide) (hts _ q373) (fun _ h => h) rfl (tyX9_ok 1 (by decide)) rfl rfl (Nat.le_of_ble_eq_true rfl) dJ0_init_2_38 (fun H locs hP hD hS => ?_)
  have hP : va_P D vwCl [(q, .inr (9, [.ref q, .null, va_rf r2, .null, .null, .int 0, .int x, .int y]))] H := hP
  have hD : va_D A [(q, .inr (9, [.ref q, .null, va_rf r2, .null, .null, .int 0, .int x, .int y]))] := hD
  refine lv_aload_n hx hb dJ0_init_2_41 rfl (lv_at hl 0 rfl) ?_
  refine lv_aload_nN hx hb dJ0_init_2_42 rfl (lv_at hl 1 rfl) ?_
  refine va_put hx hb hts in_X9 tyX9 tyX9_ok nmX9 hown hK hP hD hS 0 rfl rfl 3 (by decide) (hts _ q371) (fun _ h => h) rfl (tyX9_ok 3 (by decide)) rfl rfl (Nat.le_of_ble_eq_true rfl) dJ0_init_2_43 (fun H locs hP hD hS => ?_)
  have hP : va_P D vwCl [(q, .inr (9, [.ref q, .null, va_rf r2, .null, .null, .int 0, .int x, .int y]))] H := hP
  have hD : va_D A [(q, .inr (9, [.ref q, .null, va_rf r2, .null, .null, .int 0, .int x, .int y]))] := hD
  refine lv_aload_n hx hb dJ0_init_2_46 rfl (lv_at hl 0 rfl) ?_
  refine lv_aload_nN hx hb dJ0_init_2_47 rfl (lv_at hl 2 rfl) ?_
  refine va_put hx hb hts in_X9 tyX9 tyX9_ok nmX9 hown hK hP hD hS 0 rfl rfl 0 (by decide) (hts _ q372) (fun _ h => h) rfl (tyX9_ok 0 (by decide)) rfl rfl (Nat.le_of_ble_eq_true rfl) dJ0_init_2_48 (fun H locs hP hD hS => ?_)
  have hP : va_P D vwCl [(q, .inr (9, [.null, .null, va_rf r2, .null, .null, .int 0, .int x, .int y]))] H := hP
  have hD : va_D A [(q, .inr (9, [.null, .null, va_rf r2, .null, .null, .int 0, .int x, .int y]))] := hD
  refine lv_iload_n hx hb dJ0_init_2_51 rfl (lv_at hl 3 rfl) ?_
  refine lv_if_ne (tgt := 60) hx hb dJ0_init_2_52 (by decide) (fun c1 => absurd rfl c1) (fun c1 => ?_)
  refine lv_aload_n hx hb dJ0_init_2_55 rfl (lv_at hl 0 rfl) ?_
  refine lv_null hx hb dJ0_init_2_56 ?_
  refine va_put hx hb hts in_X9 tyX9 tyX9_ok nmX9 hown hK hP hD hS 0 rfl rfl 2 (by decide) (hts _ q374) (fun _ h => h) rfl (tyX9_ok 2 (by decide)) rfl rfl (Nat.le_of_ble_eq_true rfl) dJ0_init_2_57 (fun H locs hP hD hS => ?_)
  have hP : va_P D vwCl [(q, .inr (9, [.null, .null, .null, .null, .null, .int 0, .int x, .int y]))] H := hP
  have hD : va_D A [(q, .inr (9, [.null, .null, .null, .null, .null, .int 0, .int x, .int y]))] := hD
  rw [hZ]
  exact W.vret hx hb hr (fun t ht hW => ⟨⟨(), rfl, trivial, by rw [ht]; exact hP, hD⟩, hS.F ht⟩) hS.2.2 dJ0_init_2_60 hlocks

abbrev rm_E_init : Room := { frames := 3, cells := 0, slots := 0, locals := 70 }
set_option maxHeartbeats 4000000 in
theorem met_E_init (l : Launch) (D : va_G) (ca : Nat → ClassId) (sk sv : Nat → Nat) (sz : Nat) (q : Nat) (x y : Int32)  : Met l yJ1_init (ws_ yJ1_init cJ1_init 5 none) rm_E_init (va_Pc [.ref q, .null, .null, .int 0, .int 0] (wpreE D vwCl (tyL ca) sk sv [(q, .inr (9, [.null, .null, .null, .null, .null, .int 0, .int x, .int y]))] sz)) (va_Qv (fun (u : Unit) => True) (wpost D vwCl (va_A [(q, .inr (9, [.null, .null, .null, .null, .null, .int 0, .int x, .int y]))] sz) (fun (_ : Unit) => [(q, .inr (9, [.null, .null, .null, .null, .null, .int 0, .int x, .int y]))])) (va_A [(q, .inr (9, [.null, .null, .null, .null, .null, .int 0, .int x, .int y]))] sz)) 0 0 (va_A [(q, .inr (9, [.null, .null, .null, .null, .null, .int 0, .int x, .int y]))] sz) := by
  refine met_ofE (fun A => (va_Qv (fun (u : Unit) => True) (wpost D vwCl A (fun (_ : Unit) => [(q, .inr (9, [.null, .null, .null, .null, .null, .int 0, .int x, .int y]))])) A)) (by decide) (Nat.le_of_ble_eq_true rfl) ?_
  intro p e s m args below meth c Z A hZ C hE hmn H locs hP hD hS ls hl
  have hx := C.1; have hb := C.2.1; have hr := C.2.2.1; have hlocks := C.2.2.2.1; have hml := C.2.2.2.2.1; have hown := C.2.2.2.2.2.1; have hts := C.2.2.2.2.2.2.1; have hn := C.2.2.2.2.2.2.2.1; have hK := C.2.2.2.2.2.2.2.2.1; have hA := C.2.2.2.2.2.2.2.2.2
  have hl : lv_has ls 5 [(0, .ref q), (1, .null), (2, .null), (3, .int 0), (4, .int 0)] := hl
  refine lv_aload_n hx hb dJ1_init_0 rfl (lv_at hl 0 rfl) ?_
  refine lv_aload_nN hx hb dJ1_init_1 rfl (lv_at hl 1 rfl) ?_
  refine lv_aload_nN hx hb dJ1_init_2 rfl (lv_at hl 2 rfl) ?_
  refine lv_iload_n hx hb dJ1_init_3 rfl (lv_at hl 3 rfl) ?_
  refine lv_iload hx hb dJ1_init_4 (lv_at hl 4 rfl) ?_
  refine wcE_Ivk (As := [.null, .null, .int 0, .int 0]) (rest := []) C hE (met_T_init l D ca sk sv H.size q x y) (cwI 4 hts (lw_meth q365) rfl rfl rfl (hts _ q77) (hts _ q363) (hts _ q364) rfl (by decide +kernel) ⟨Nat.le_of_ble_eq_true rfl, Nat.le_of_ble_eq_true rfl⟩) hP hD hS [0] rfl rfl rfl rfl hl.1 (Nat.le_of_ble_eq_true rfl) dJ1_init_6 ⟨Nat.le_of_ble_eq_true rfl, Nat.le_of_ble_eq_true rfl⟩ (fun u H locs hr2 hP hD hS => ?_)
  rw [hZ]
  exact W.vret hx hb hr (fun t ht hW => ⟨⟨(), rfl, trivial, by rw [ht]; exact hP, hD⟩, hS.F ht⟩) hS.2.2 dJ1_init_9 hlocks

abbrev rm_X_init : Room := { frames := 4, cells := 0, slots := 0, locals := 100 }
set_option maxHeartbeats 4000000 in
theorem met_X_init (l : Launch) (D : va_G) (ca : Nat → ClassId) (sk sv : Nat → Nat) (sz : Nat) (q : Nat) (x1 x2 : Int32)  : Met l yX9_init (ws_ yX9_init cX9_init 3 none) rm_X_init (va_Pc [.ref q, .int x1, .int x2] (wpreE D vwCl (tyL ca) sk sv [(q, .inr (9, [.null, .null, .null, .null, .null, .int 0, .int 0, .int 0]))] sz)) (va_Qv (fun (u : Unit) => True) (wpost D vwCl (va_A [(q, .inr (9, [.null, .null, .null, .null, .null, .int 0, .int 0, .int 0]))] sz) (fun (_ : Unit) => [(q, flt x1 x2)])) (va_A [(q, .inr (9, [.null, .null, .null, .null, .null, .int 0, .int 0, .int 0]))] sz)) 0 0 (va_A [(q, .inr (9, [.null, .null, .null, .null, .null, .int 0, .int 0, .int 0]))] sz) := by
  refine met_ofE (fun A => (va_Qv (fun (u : Unit) => True) (wpost D vwCl A (fun (_ : Unit) => [(q, flt x1 x2)])) A)) (by decide) (Nat.le_of_ble_eq_true rfl) ?_
  intro p e s m args below meth c Z A hZ C hE hmn H locs hP hD hS ls hl
  have hx := C.1; have hb := C.2.1; have hr := C.2.2.1; have hlocks := C.2.2.2.1; have hml := C.2.2.2.2.1; have hown := C.2.2.2.2.2.1; have hts := C.2.2.2.2.2.2.1; have hn := C.2.2.2.2.2.2.2.1; have hK := C.2.2.2.2.2.2.2.2.1; have hA := C.2.2.2.2.2.2.2.2.2
  have hl : lv_has ls 3 [(0, .ref q), (1, .int x1), (2, .int x2)] := hl
  refine lv_aload_n hx hb dX9_init_0 rfl (lv_at hl 0 rfl) ?_
  refine lv_null hx hb dX9_init_1 ?_
  refine lv_null hx hb dX9_init_2 ?_
  refine lv_iconst (v := 0) hx hb dX9_init_3 (by decide) ?_
  refine lv_iconst (v := 0) hx hb dX9_init_4 (by decide) ?_
  refine wcE_Ivk (As := [.null, .null, .int 0, .int 0]) (rest := []) C hE (met_E_init l D ca sk sv H.size q 0 0) (cwI 4 hts (lw_meth q362) rfl rfl rfl (hts _ q78) (hts _ q360) (hts _ q361) rfl (by decide +kernel) ⟨Nat.le_of_ble_eq_true rfl, Nat.le_of_ble_eq_true rfl⟩) hP hD hS [0] rfl rfl rfl rfl hl.1 (Nat.le_of_ble_eq_true rfl) dX9_init_5 ⟨Nat.le_of_ble_eq_true rfl, Nat.le_of_ble_eq_true rfl⟩ (fun u H locs hr2 hP hD hS => ?_)
  refine lv_aload_n hx hb dX9_init_8 rfl (lv_at hl 0 rfl) ?_
  refine lv_iload_n hx hb dX9_init_9 rfl (lv_at hl 1 rfl) ?_
  refine va_putF hx hb hts in_X9 tyX9 tyX9_ok nmX9 hown hK hP hD hS 0 rfl rfl 6 (by decide) (hts _ q366) (fun _ h => h) rfl hmn rfl (tyX9_ok 6 (by decide)) rfl rfl (Nat.le_of_ble_eq_true rfl) dX9_init_10 (fun H locs hP hD hS => ?_)
  have hP : va_P D vwCl [(q, .inr (9, [.null, .null, .null, .null, .null, .int 0, .int x1, .int 0]))] H := hP
  have hD : va_D A [(q, .inr (9, [.null, .null, .null, .null, .null, .int 0, .int x1, .int 0]))] := hD
  refine lv_aload_n hx hb dX9_init_13 rfl (lv_at hl 0 rfl) ?_
  refine lv_iload_n hx hb dX9_init_14 rfl (lv_at hl 2 rfl) ?_
  refine va_putF hx hb hts in_X9 tyX9 tyX9_ok nmX9 hown hK hP hD hS 0 rfl rfl 7 (by decide) (hts _ q368) (fun _ h => h) rfl hmn rfl (tyX9_ok 7 (by decide)) rfl rfl (Nat.le_of_ble_eq_true rfl) dX9_init_15 (fun H locs hP hD hS => ?_)
  have hP : va_P D vwCl [(q, .inr (9, [.null, .null, .null, .null, .null, .int 0, .int x1, .int x2]))] H := hP
  have hD : va_D A [(q, .inr (9, [.null, .null, .null, .null, .null, .int 0, .int x1, .int x2]))] := hD
  rw [hZ]
  exact W.vret hx hb hr (fun t ht hW => ⟨⟨(), rfl, trivial, by rw [ht]; exact hP, hD⟩, hS.F ht⟩) hS.2.2 dX9_init_18 hlocks

