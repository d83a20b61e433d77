set_option maxRecDepth 100000
def dkwX8_init_1 : List UInt8 := [188, 8, 181, 0, 22, 42, 16, 252, 181, 0, 26, 42, 28, 181, 0, 30, 42, 182, 0, 33, 177]
abbrev dktX8_init_1 : List UInt8 := dkwX8_init_1 ++ []
def dkwX8_init_0 : List UInt8 := [42, 43, 181, 0, 3, 42, 183, 0, 9, 42, 187, 0, 15, 89, 183, 0, 17, 181, 0, 18, 42, 16, 8]
abbrev dktX8_init_0 : List UInt8 := dkwX8_init_0 ++ dktX8_init_1
theorem dksX8_init_0 : cX8_init.data.toList.drop 0 = dktX8_init_0 := by decide +kernel
theorem dksX8_init_1 : cX8_init.data.toList.drop 23 = dktX8_init_1 := dk_seg dksX8_init_0 23 rfl rfl
theorem dX8_init_0 : decode cX8_init 0 = .ok (.aload_n 0, 1) := dk_42 (dk_at dksX8_init_0 0 rfl rfl)
theorem dX8_init_1 : decode cX8_init 1 = .ok (.aload_n 1, 1) := dk_43 (dk_at dksX8_init_0 1 rfl rfl)
theorem dX8_init_2 : decode cX8_init 2 = .ok (.putfield 3, 3) := dk_181 0 3 (dk_at dksX8_init_0 2 rfl rfl)
theorem dX8_init_5 : decode cX8_init 5 = .ok (.aload_n 0, 1) := dk_42 (dk_at dksX8_init_0 5 rfl rfl)
theorem dX8_init_6 : decode cX8_init 6 = .ok (.invokespecial 9, 3) := dk_183 0 9 (dk_at dksX8_init_0 6 rfl rfl)
theorem dX8_init_9 : decode cX8_init 9 = .ok (.aload_n 0, 1) := dk_42 (dk_at dksX8_init_0 9 rfl rfl)
theorem dX8_init_10 : decode cX8_init 10 = .ok (.new 15, 3) := dk_187 0 15 (dk_at dksX8_init_0 10 rfl rfl)
theorem dX8_init_13 : decode cX8_init 13 = .ok (.dup, 1) := dk_89 (dk_at dksX8_init_0 13 rfl rfl)
theorem dX8_init_14 : decode cX8_init 14 = .ok (.invokespecial 17, 3) := dk_183 0 17 (dk_at dksX8_init_0 14 rfl rfl)
theorem dX8_init_17 : decode cX8_init 17 = .ok (.putfield 18, 3) := dk_181 0 18 (dk_at dksX8_init_0 17 rfl rfl)
theorem dX8_init_20 : decode cX8_init 20 = .ok (.aload_n 0, 1) := dk_42 (dk_at dksX8_init_0 20 rfl rfl)
theorem dX8_init_21 : decode cX8_init 21 = .ok (.bipush 8, 2) := dk_16 8 (dk_at dksX8_init_0 21 rfl rfl)
theorem dX8_init_23 : decode cX8_init 23 = .ok (.newarray .byte, 2) := dk_188_8 (dk_at dksX8_init_1 0 rfl rfl)
theorem dX8_init_25 : decode cX8_init 25 = .ok (.putfield 22, 3) := dk_181 0 22 (dk_at dksX8_init_1 2 rfl rfl)
theorem dX8_init_28 : decode cX8_init 28 = .ok (.aload_n 0, 1) := dk_42 (dk_at dksX8_init_1 5 rfl rfl)
theorem dX8_init_29 : decode cX8_init 29 = .ok (.bipush (-4), 2) := dk_16 252 (dk_at dksX8_init_1 6 rfl rfl)
theorem dX8_init_31 : decode cX8_init 31 = .ok (.putfield 26, 3) := dk_181 0 26 (dk_at dksX8_init_1 8 rfl rfl)
theorem dX8_init_34 : decode cX8_init 34 = .ok (.aload_n 0, 1) := dk_42 (dk_at dksX8_init_1 11 rfl rfl)
theorem dX8_init_35 : decode cX8_init 35 = .ok (.iload_n 2, 1) := dk_28 (dk_at dksX8_init_1 12 rfl rfl)
theorem dX8_init_36 : decode cX8_init 36 = .ok (.putfield 30, 3) := dk_181 0 30 (dk_at dksX8_init_1 13 rfl rfl)
theorem dX8_init_39 : decode cX8_init 39 = .ok (.aload_n 0, 1) := dk_42 (dk_at dksX8_init_1 16 rfl rfl)
theorem dX8_init_40 : decode cX8_init 40 = .ok (.invokevirtual 33, 3) := dk_182 0 33 (dk_at dksX8_init_1 17 rfl rfl)
theorem dX8_init_43 : decode cX8_init 43 = .ok (.return_, 1) := dk_177 (dk_at dksX8_init_1 20 rfl rfl)
def dkwX8_next_10 : List UInt8 := [181, 0, 36, 177]
abbrev dktX8_next_10 : List UInt8 := dkwX8_next_10 ++ []
def dkwX8_next_9 : List UInt8 := [181, 0, 83, 42, 42, 16, 59, 16, 59, 182, 0, 104, 4, 182, 0, 100, 42, 89, 180, 0, 36, 4, 96]
abbrev dktX8_next_9 : List UInt8 := dkwX8_next_9 ++ dktX8_next_10
def dkwX8_next_8 : List UInt8 := [180, 0, 44, 100, 6, 162, 0, 7, 4, 167, 0, 4, 3, 4, 182, 0, 100, 167, 0, 31, 42, 6]
abbrev dktX8_next_8 : List UInt8 := dkwX8_next_8 ++ dktX8_next_9
def dkwX8_next_7 : List UInt8 := [181, 0, 108, 42, 89, 180, 0, 36, 4, 96, 181, 0, 36, 167, 255, 188, 42, 42, 180, 0, 36, 42]
abbrev dktX8_next_7 : List UInt8 := dkwX8_next_7 ++ dktX8_next_8
def dkwX8_next_6 : List UInt8 := [42, 180, 0, 3, 180, 0, 39, 42, 180, 0, 36, 51, 96, 16, 48, 100, 167, 0, 7, 42, 180, 0, 108]
abbrev dktX8_next_6 : List UInt8 := dkwX8_next_6 ++ dktX8_next_7
def dkwX8_next_5 : List UInt8 := [153, 0, 63, 42, 42, 180, 0, 36, 42, 180, 0, 44, 100, 5, 162, 0, 29, 16, 10, 42, 180, 0, 108, 104]
abbrev dktX8_next_5 : List UInt8 := dkwX8_next_5 ++ dktX8_next_6
def dkwX8_next_4 : List UInt8 := [182, 0, 104, 153, 0, 110, 42, 5, 181, 0, 83, 42, 3, 181, 0, 108, 42, 16, 48, 16, 57, 182, 0, 104]
abbrev dktX8_next_4 : List UInt8 := dkwX8_next_4 ++ dktX8_next_5
def dkwX8_next_3 : List UInt8 := [182, 0, 104, 153, 0, 162, 42, 89, 180, 0, 36, 4, 96, 181, 0, 36, 167, 255, 235, 42, 16, 48, 16, 57]
abbrev dktX8_next_3 : List UInt8 := dkwX8_next_3 ++ dktX8_next_4
def dkwX8_next_2 : List UInt8 := [167, 0, 189, 42, 16, 97, 16, 122, 182, 0, 104, 153, 0, 32, 42, 4, 181, 0, 83, 42, 16, 97, 16, 122]
abbrev dktX8_next_2 : List UInt8 := dkwX8_next_2 ++ dktX8_next_3
def dkwX8_next_1 : List UInt8 := [42, 42, 180, 0, 36, 181, 0, 44, 42, 180, 0, 36, 42, 180, 0, 30, 160, 0, 11, 42, 3, 181, 0, 83]
abbrev dktX8_next_1 : List UInt8 := dkwX8_next_1 ++ dktX8_next_2
def dkwX8_next_0 : List UInt8 := [42, 16, 32, 16, 32, 182, 0, 104, 153, 0, 16, 42, 89, 180, 0, 36, 4, 96, 181, 0, 36, 167, 255, 235]
abbrev dktX8_next_0 : List UInt8 := dkwX8_next_0 ++ dktX8_next_1
theorem dksX8_next_0 : cX8_next.data.toList.drop 0 = dktX8_next_0 := by decide +kernel
theorem dksX8_next_1 : cX8_next.data.toList.drop 24 = dktX8_next_1 := dk_seg dksX8_next_0 24 rfl rfl
theorem dksX8_next_2 : cX8_next.data.toList.drop 48 = dktX8_next_2 := dk_seg dksX8_next_1 24 rfl rfl
theorem dksX8_next_3 : cX8_next.data.toList.drop 72 = dktX8_next_3 := dk_seg dksX8_next_2 24 rfl rfl
theorem dksX8_next_4 : cX8_next.data.toList.drop 96 = dktX8_next_4 := dk_seg dksX8_next_3 24 rfl rfl
theorem dksX8_next_5 : cX8_next.data.toList.drop 120 = dktX8_next_5 := dk_seg dksX8_next_4 24 rfl rfl
theorem dksX8_next_6 : cX8_next.data.toList.drop 144 = dktX8_next_6 := dk_seg dksX8_next_5 24 rfl rfl
theorem dksX8_next_7 : cX8_next.data.toList.drop 167 = dktX8_next_7 := dk_seg dksX8_next_6 23 rfl rfl
theorem dksX8_next_8 : cX8_next.data.toList.drop 189 = dktX8_next_8 := dk_seg dksX8_next_7 22 rfl rfl
theorem dksX8_next_9 : cX8_next.data.toList.drop 211 = dktX8_next_9 := dk_seg dksX8_next_8 22 rfl rfl
theorem dksX8_next_10 : cX8_next.data.toList.drop 234 = dktX8_next_10 := dk_seg dksX8_next_9 23 rfl rfl
theorem dX8_next_0 : decode cX8_next 0 = .ok (.aload_n 0, 1) := dk_42 (dk_at dksX8_next_0 0 rfl rfl)
theorem dX8_next_1 : decode cX8_next 1 = .ok (.bipush 32, 2) := dk_16 32 (dk_at dksX8_next_0 1 rfl rfl)
theorem dX8_next_3 : decode cX8_next 3 = .ok (.bipush 32, 2) := dk_16 32 (dk_at dksX8_next_0 3 rfl rfl)
theorem dX8_next_5 : decode cX8_next 5 = .ok (.invokevirtual 104, 3) := dk_182 0 104 (dk_at dksX8_next_0 5 rfl rfl)
theorem dX8_next_8 : decode cX8_next 8 = .ok (.ifCond .eq 16, 3) := dk_153 0 16 (dk_at dksX8_next_0 8 rfl rfl)
theorem dX8_next_11 : decode cX8_next 11 = .ok (.aload_n 0, 1) := dk_42 (dk_at dksX8_next_0 11 rfl rfl)
theorem dX8_next_12 : decode cX8_next 12 = .ok (.dup, 1) := dk_89 (dk_at dksX8_next_0 12 rfl rfl)
theorem dX8_next_13 : decode cX8_next 13 = .ok (.getfield 36, 3) := dk_180 0 36 (dk_at dksX8_next_0 13 rfl rfl)
theorem dX8_next_16 : decode cX8_next 16 = .ok (.iconst 1, 1) := dk_4 (dk_at dksX8_next_0 16 rfl rfl)
theorem dX8_next_17 : decode cX8_next 17 = .ok (.iadd, 1) := dk_96 (dk_at dksX8_next_0 17 rfl rfl)
theorem dX8_next_18 : decode cX8_next 18 = .ok (.putfield 36, 3) := dk_181 0 36 (dk_at dksX8_next_0 18 rfl rfl)
theorem dX8_next_21 : decode cX8_next 21 = .ok (.goto (-21), 3) := dk_167 255 235 (dk_at dksX8_next_0 21 rfl rfl)
theorem dX8_next_24 : decode cX8_next 24 = .ok (.aload_n 0, 1) := dk_42 (dk_at dksX8_next_1 0 rfl rfl)
theorem dX8_next_25 : decode cX8_next 25 = .ok (.aload_n 0, 1) := dk_42 (dk_at dksX8_next_1 1 rfl rfl)
theorem dX8_next_26 : decode cX8_next 26 = .ok (.getfield 36, 3) := dk_180 0 36 (dk_at dksX8_next_1 2 rfl rfl)
theorem dX8_next_29 : decode cX8_next 29 = .ok (.putfield 44, 3) := dk_181 0 44 (dk_at dksX8_next_1 5 rfl rfl)
theorem dX8_next_32 : decode cX8_next 32 = .ok (.aload_n 0, 1) := dk_42 (dk_at dksX8_next_1 8 rfl rfl)
theorem dX8_next_33 : decode cX8_next 33 = .ok (.getfield 36, 3) := dk_180 0 36 (dk_at dksX8_next_1 9 rfl rfl)
theorem dX8_next_36 : decode cX8_next 36 = .ok (.aload_n 0, 1) := dk_42 (dk_at dksX8_next_1 12 rfl rfl)
theorem dX8_next_37 : decode cX8_next 37 = .ok (.getfield 30, 3) := dk_180 0 30 (dk_at dksX8_next_1 13 rfl rfl)
theorem dX8_next_40 : decode cX8_next 40 = .ok (.if_icmp .ne 11, 3) := dk_160 0 11 (dk_at dksX8_next_1 16 rfl rfl)
theorem dX8_next_43 : decode cX8_next 43 = .ok (.aload_n 0, 1) := dk_42 (dk_at dksX8_next_1 19 rfl rfl)
theorem dX8_next_44 : decode cX8_next 44 = .ok (.iconst 0, 1) := dk_3 (dk_at dksX8_next_1 20 rfl rfl)
theorem dX8_next_45 : decode cX8_next 45 = .ok (.putfield 83, 3) := dk_181 0 83 (dk_at dksX8_next_1 21 rfl rfl)
theorem dX8_next_48 : decode cX8_next 48 = .ok (.goto 189, 3) := dk_167 0 189 (dk_at dksX8_next_2 0 rfl rfl)
theorem dX8_next_51 : decode cX8_next 51 = .ok (.aload_n 0, 1) := dk_42 (dk_at dksX8_next_2 3 rfl rfl)
theorem dX8_next_52 : decode cX8_next 52 = .ok (.bipush 97, 2) := dk_16 97 (dk_at dksX8_next_2 4 rfl rfl)
theorem dX8_next_54 : decode cX8_next 54 = .ok (.bipush 122, 2) := dk_16 122 (dk_at dksX8_next_2 6 rfl rfl)
theorem dX8_next_56 : decode cX8_next 56 = .ok (.invokevirtual 104, 3) := dk_182 0 104 (dk_at dksX8_next_2 8 rfl rfl)
theorem dX8_next_59 : decode cX8_next 59 = .ok (.ifCond .eq 32, 3) := dk_153 0 32 (dk_at dksX8_next_2 11 rfl rfl)
theorem dX8_next_62 : decode cX8_next 62 = .ok (.aload_n 0, 1) := dk_42 (dk_at dksX8_next_2 14 rfl rfl)
theorem dX8_next_63 : decode cX8_next 63 = .ok (.iconst 1, 1) := dk_4 (dk_at dksX8_next_2 15 rfl rfl)
theorem dX8_next_64 : decode cX8_next 64 = .ok (.putfield 83, 3) := dk_181 0 83 (dk_at dksX8_next_2 16 rfl rfl)
theorem dX8_next_67 : decode cX8_next 67 = .ok (.aload_n 0, 1) := dk_42 (dk_at dksX8_next_2 19 rfl rfl)
theorem dX8_next_68 : decode cX8_next 68 = .ok (.bipush 97, 2) := dk_16 97 (dk_at dksX8_next_2 20 rfl rfl)
theorem dX8_next_70 : decode cX8_next 70 = .ok (.bipush 122, 2) := dk_16 122 (dk_at dksX8_next_2 22 rfl rfl)
theorem dX8_next_72 : decode cX8_next 72 = .ok (.invokevirtual 104, 3) := dk_182 0 104 (dk_at dksX8_next_3 0 rfl rfl)
theorem dX8_next_75 : decode cX8_next 75 = .ok (.ifCond .eq 162, 3) := dk_153 0 162 (dk_at dksX8_next_3 3 rfl rfl)
theorem dX8_next_78 : decode cX8_next 78 = .ok (.aload_n 0, 1) := dk_42 (dk_at dksX8_next_3 6 rfl rfl)
theorem dX8_next_79 : decode cX8_next 79 = .ok (.dup, 1) := dk_89 (dk_at dksX8_next_3 7 rfl rfl)
theorem dX8_next_80 : decode cX8_next 80 = .ok (.getfield 36, 3) := dk_180 0 36 (dk_at dksX8_next_3 8 rfl rfl)
theorem dX8_next_83 : decode cX8_next 83 = .ok (.iconst 1, 1) := dk_4 (dk_at dksX8_next_3 11 rfl rfl)
theorem dX8_next_84 : decode cX8_next 84 = .ok (.iadd, 1) := dk_96 (dk_at dksX8_next_3 12 rfl rfl)
theorem dX8_next_85 : decode cX8_next 85 = .ok (.putfield 36, 3) := dk_181 0 36 (dk_at dksX8_next_3 13 rfl rfl)
theorem dX8_next_88 : decode cX8_next 88 = .ok (.goto (-21), 3) := dk_167 255 235 (dk_at dksX8_next_3 16 rfl rfl)
theorem dX8_next_91 : decode cX8_next 91 = .ok (.aload_n 0, 1) := dk_42 (dk_at dksX8_next_3 19 rfl rfl)
theorem dX8_next_92 : decode cX8_next 92 = .ok (.bipush 48, 2) := dk_16 48 (dk_at dksX8_next_3 20 rfl rfl)
theorem dX8_next_94 : decode cX8_next 94 = .ok (.bipush 57, 2) := dk_16 57 (dk_at dksX8_next_3 22 rfl rfl)
theorem dX8_next_96 : decode cX8_next 96 = .ok (.invokevirtual 104, 3) := dk_182 0 104 (dk_at dksX8_next_4 0 rfl rfl)
theorem dX8_next_99 : decode cX8_next 99 = .ok (.ifCond .eq 110, 3) := dk_153 0 110 (dk_at dksX8_next_4 3 rfl rfl)
theorem dX8_next_102 : decode cX8_next 102 = .ok (.aload_n 0, 1) := dk_42 (dk_at dksX8_next_4 6 rfl rfl)
theorem dX8_next_103 : decode cX8_next 103 = .ok (.iconst 2, 1) := dk_5 (dk_at dksX8_next_4 7 rfl rfl)
theorem dX8_next_104 : decode cX8_next 104 = .ok (.putfield 83, 3) := dk_181 0 83 (dk_at dksX8_next_4 8 rfl rfl)
theorem dX8_next_107 : decode cX8_next 107 = .ok (.aload_n 0, 1) := dk_42 (dk_at dksX8_next_4 11 rfl rfl)
theorem dX8_next_108 : decode cX8_next 108 = .ok (.iconst 0, 1) := dk_3 (dk_at dksX8_next_4 12 rfl rfl)
theorem dX8_next_109 : decode cX8_next 109 = .ok (.putfield 108, 3) := dk_181 0 108 (dk_at dksX8_next_4 13 rfl rfl)
theorem dX8_next_112 : decode cX8_next 112 = .ok (.aload_n 0, 1) := dk_42 (dk_at dksX8_next_4 16 rfl rfl)
theorem dX8_next_113 : decode cX8_next 113 = .ok (.bipush 48, 2) := dk_16 48 (dk_at dksX8_next_4 17 rfl rfl)
theorem dX8_next_115 : decode cX8_next 115 = .ok (.bipush 57, 2) := dk_16 57 (dk_at dksX8_next_4 19 rfl rfl)
theorem dX8_next_117 : decode cX8_next 117 = .ok (.invokevirtual 104, 3) := dk_182 0 104 (dk_at dksX8_next_4 21 rfl rfl)
theorem dX8_next_120 : decode cX8_next 120 = .ok (.ifCond .eq 63, 3) := dk_153 0 63 (dk_at dksX8_next_5 0 rfl rfl)
theorem dX8_next_123 : decode cX8_next 123 = .ok (.aload_n 0, 1) := dk_42 (dk_at dksX8_next_5 3 rfl rfl)
theorem dX8_next_124 : decode cX8_next 124 = .ok (.aload_n 0, 1) := dk_42 (dk_at dksX8_next_5 4 rfl rfl)
theorem dX8_next_125 : decode cX8_next 125 = .ok (.getfield 36, 3) := dk_180 0 36 (dk_at dksX8_next_5 5 rfl rfl)
theorem dX8_next_128 : decode cX8_next 128 = .ok (.aload_n 0, 1) := dk_42 (dk_at dksX8_next_5 8 rfl rfl)
theorem dX8_next_129 : decode cX8_next 129 = .ok (.getfield 44, 3) := dk_180 0 44 (dk_at dksX8_next_5 9 rfl rfl)
theorem dX8_next_132 : decode cX8_next 132 = .ok (.isub, 1) := dk_100 (dk_at dksX8_next_5 12 rfl rfl)
theorem dX8_next_133 : decode cX8_next 133 = .ok (.iconst 2, 1) := dk_5 (dk_at dksX8_next_5 13 rfl rfl)
theorem dX8_next_134 : decode cX8_next 134 = .ok (.if_icmp .ge 29, 3) := dk_162 0 29 (dk_at dksX8_next_5 14 rfl rfl)
theorem dX8_next_137 : decode cX8_next 137 = .ok (.bipush 10, 2) := dk_16 10 (dk_at dksX8_next_5 17 rfl rfl)
theorem dX8_next_139 : decode cX8_next 139 = .ok (.aload_n 0, 1) := dk_42 (dk_at dksX8_next_5 19 rfl rfl)
theorem dX8_next_140 : decode cX8_next 140 = .ok (.getfield 108, 3) := dk_180 0 108 (dk_at dksX8_next_5 20 rfl rfl)
theorem dX8_next_143 : decode cX8_next 143 = .ok (.imul, 1) := dk_104 (dk_at dksX8_next_5 23 rfl rfl)
theorem dX8_next_144 : decode cX8_next 144 = .ok (.aload_n 0, 1) := dk_42 (dk_at dksX8_next_6 0 rfl rfl)
theorem dX8_next_145 : decode cX8_next 145 = .ok (.getfield 3, 3) := dk_180 0 3 (dk_at dksX8_next_6 1 rfl rfl)
theorem dX8_next_148 : decode cX8_next 148 = .ok (.getfield 39, 3) := dk_180 0 39 (dk_at dksX8_next_6 4 rfl rfl)
theorem dX8_next_151 : decode cX8_next 151 = .ok (.aload_n 0, 1) := dk_42 (dk_at dksX8_next_6 7 rfl rfl)
theorem dX8_next_152 : decode cX8_next 152 = .ok (.getfield 36, 3) := dk_180 0 36 (dk_at dksX8_next_6 8 rfl rfl)
theorem dX8_next_155 : decode cX8_next 155 = .ok (.baload, 1) := dk_51 (dk_at dksX8_next_6 11 rfl rfl)
theorem dX8_next_156 : decode cX8_next 156 = .ok (.iadd, 1) := dk_96 (dk_at dksX8_next_6 12 rfl rfl)
theorem dX8_next_157 : decode cX8_next 157 = .ok (.bipush 48, 2) := dk_16 48 (dk_at dksX8_next_6 13 rfl rfl)
theorem dX8_next_159 : decode cX8_next 159 = .ok (.isub, 1) := dk_100 (dk_at dksX8_next_6 15 rfl rfl)
theorem dX8_next_160 : decode cX8_next 160 = .ok (.goto 7, 3) := dk_167 0 7 (dk_at dksX8_next_6 16 rfl rfl)
theorem dX8_next_163 : decode cX8_next 163 = .ok (.aload_n 0, 1) := dk_42 (dk_at dksX8_next_6 19 rfl rfl)
theorem dX8_next_164 : decode cX8_next 164 = .ok (.getfield 108, 3) := dk_180 0 108 (dk_at dksX8_next_6 20 rfl rfl)
theorem dX8_next_167 : decode cX8_next 167 = .ok (.putfield 108, 3) := dk_181 0 108 (dk_at dksX8_next_7 0 rfl rfl)
theorem dX8_next_170 : decode cX8_next 170 = .ok (.aload_n 0, 1) := dk_42 (dk_at dksX8_next_7 3 rfl rfl)
theorem dX8_next_171 : decode cX8_next 171 = .ok (.dup, 1) := dk_89 (dk_at dksX8_next_7 4 rfl rfl)
theorem dX8_next_172 : decode cX8_next 172 = .ok (.getfield 36, 3) := dk_180 0 36 (dk_at dksX8_next_7 5 rfl rfl)
theorem dX8_next_175 : decode cX8_next 175 = .ok (.iconst 1, 1) := dk_4 (dk_at dksX8_next_7 8 rfl rfl)
theorem dX8_next_176 : decode cX8_next 176 = .ok (.iadd, 1) := dk_96 (dk_at dksX8_next_7 9 rfl rfl)
theorem dX8_next_177 : decode cX8_next 177 = .ok (.putfield 36, 3) := dk_181 0 36 (dk_at dksX8_next_7 10 rfl rfl)
theorem dX8_next_180 : decode cX8_next 180 = .ok (.goto (-68), 3) := dk_167 255 188 (dk_at dksX8_next_7 13 rfl rfl)
theorem dX8_next_183 : decode cX8_next 183 = .ok (.aload_n 0, 1) := dk_42 (dk_at dksX8_next_7 16 rfl rfl)
theorem dX8_next_184 : decode cX8_next 184 = .ok (.aload_n 0, 1) := dk_42 (dk_at dksX8_next_7 17 rfl rfl)
theorem dX8_next_185 : decode cX8_next 185 = .ok (.getfield 36, 3) := dk_180 0 36 (dk_at dksX8_next_7 18 rfl rfl)
theorem dX8_next_188 : decode cX8_next 188 = .ok (.aload_n 0, 1) := dk_42 (dk_at dksX8_next_7 21 rfl rfl)
theorem dX8_next_189 : decode cX8_next 189 = .ok (.getfield 44, 3) := dk_180 0 44 (dk_at dksX8_next_8 0 rfl rfl)
theorem dX8_next_192 : decode cX8_next 192 = .ok (.isub, 1) := dk_100 (dk_at dksX8_next_8 3 rfl rfl)
theorem dX8_next_193 : decode cX8_next 193 = .ok (.iconst 3, 1) := dk_6 (dk_at dksX8_next_8 4 rfl rfl)
theorem dX8_next_194 : decode cX8_next 194 = .ok (.if_icmp .ge 7, 3) := dk_162 0 7 (dk_at dksX8_next_8 5 rfl rfl)
theorem dX8_next_197 : decode cX8_next 197 = .ok (.iconst 1, 1) := dk_4 (dk_at dksX8_next_8 8 rfl rfl)
theorem dX8_next_198 : decode cX8_next 198 = .ok (.goto 4, 3) := dk_167 0 4 (dk_at dksX8_next_8 9 rfl rfl)
theorem dX8_next_201 : decode cX8_next 201 = .ok (.iconst 0, 1) := dk_3 (dk_at dksX8_next_8 12 rfl rfl)
theorem dX8_next_202 : decode cX8_next 202 = .ok (.iconst 1, 1) := dk_4 (dk_at dksX8_next_8 13 rfl rfl)
theorem dX8_next_203 : decode cX8_next 203 = .ok (.invokevirtual 100, 3) := dk_182 0 100 (dk_at dksX8_next_8 14 rfl rfl)
theorem dX8_next_206 : decode cX8_next 206 = .ok (.goto 31, 3) := dk_167 0 31 (dk_at dksX8_next_8 17 rfl rfl)
theorem dX8_next_209 : decode cX8_next 209 = .ok (.aload_n 0, 1) := dk_42 (dk_at dksX8_next_8 20 rfl rfl)
theorem dX8_next_210 : decode cX8_next 210 = .ok (.iconst 3, 1) := dk_6 (dk_at dksX8_next_8 21 rfl rfl)
theorem dX8_next_211 : decode cX8_next 211 = .ok (.putfield 83, 3) := dk_181 0 83 (dk_at dksX8_next_9 0 rfl rfl)
theorem dX8_next_214 : decode cX8_next 214 = .ok (.aload_n 0, 1) := dk_42 (dk_at dksX8_next_9 3 rfl rfl)
theorem dX8_next_215 : decode cX8_next 215 = .ok (.aload_n 0, 1) := dk_42 (dk_at dksX8_next_9 4 rfl rfl)
theorem dX8_next_216 : decode cX8_next 216 = .ok (.bipush 59, 2) := dk_16 59 (dk_at dksX8_next_9 5 rfl rfl)
theorem dX8_next_218 : decode cX8_next 218 = .ok (.bipush 59, 2) := dk_16 59 (dk_at dksX8_next_9 7 rfl rfl)
theorem dX8_next_220 : decode cX8_next 220 = .ok (.invokevirtual 104, 3) := dk_182 0 104 (dk_at dksX8_next_9 9 rfl rfl)
theorem dX8_next_223 : decode cX8_next 223 = .ok (.iconst 1, 1) := dk_4 (dk_at dksX8_next_9 12 rfl rfl)
theorem dX8_next_224 : decode cX8_next 224 = .ok (.invokevirtual 100, 3) := dk_182 0 100 (dk_at dksX8_next_9 13 rfl rfl)
theorem dX8_next_227 : decode cX8_next 227 = .ok (.aload_n 0, 1) := dk_42 (dk_at dksX8_next_9 16 rfl rfl)
theorem dX8_next_228 : decode cX8_next 228 = .ok (.dup, 1) := dk_89 (dk_at dksX8_next_9 17 rfl rfl)
theorem dX8_next_229 : decode cX8_next 229 = .ok (.getfield 36, 3) := dk_180 0 36 (dk_at dksX8_next_9 18 rfl rfl)
theorem dX8_next_232 : decode cX8_next 232 = .ok (.iconst 1, 1) := dk_4 (dk_at dksX8_next_9 21 rfl rfl)
theorem dX8_next_233 : decode cX8_next 233 = .ok (.iadd, 1) := dk_96 (dk_at dksX8_next_9 22 rfl rfl)
theorem dX8_next_234 : decode cX8_next 234 = .ok (.putfield 36, 3) := dk_181 0 36 (dk_at dksX8_next_10 0 rfl rfl)
theorem dX8_next_237 : decode cX8_next 237 = .ok (.return_, 1) := dk_177 (dk_at dksX8_next_10 3 rfl rfl)
def dkwX8_isIn_2 : List UInt8 := [172]
abbrev dktX8_isIn_2 : List UInt8 := dkwX8_isIn_2 ++ []
def dkwX8_isIn_1 : List UInt8 := [161, 0, 23, 42, 180, 0, 3, 180, 0, 39, 42, 180, 0, 36, 51, 28, 163, 0, 7, 4, 167, 0, 4, 3]
abbrev dktX8_isIn_1 : List UInt8 := dkwX8_isIn_1 ++ dktX8_isIn_2
def dkwX8_isIn_0 : List UInt8 := [42, 180, 0, 36, 42, 180, 0, 30, 162, 0, 39, 42, 180, 0, 3, 180, 0, 39, 42, 180, 0, 36, 51, 27]
abbrev dktX8_isIn_0 : List UInt8 := dkwX8_isIn_0 ++ dktX8_isIn_1
theorem dksX8_isIn_0 : cX8_isIn.data.toList.drop 0 = dktX8_isIn_0 := by decide +kernel
theorem dksX8_isIn_1 : cX8_isIn.data.toList.drop 24 = dktX8_isIn_1 := dk_seg dksX8_isIn_0 24 rfl rfl
theorem dksX8_isIn_2 : cX8_isIn.data.toList.drop 48 = dktX8_isIn_2 := dk_seg dksX8_isIn_1 24 rfl rfl
theorem dX8_isIn_0 : decode cX8_isIn 0 = .ok (.aload_n 0, 1) := dk_42 (dk_at dksX8_isIn_0 0 rfl rfl)
theorem dX8_isIn_1 : decode cX8_isIn 1 = .ok (.getfield 36, 3) := dk_180 0 36 (dk_at dksX8_isIn_0 1 rfl rfl)
theorem dX8_isIn_4 : decode cX8_isIn 4 = .ok (.aload_n 0, 1) := dk_42 (dk_at dksX8_isIn_0 4 rfl rfl)
theorem dX8_isIn_5 : decode cX8_isIn 5 = .ok (.getfield 30, 3) := dk_180 0 30 (dk_at dksX8_isIn_0 5 rfl rfl)
theorem dX8_isIn_8 : decode cX8_isIn 8 = .ok (.if_icmp .ge 39, 3) := dk_162 0 39 (dk_at dksX8_isIn_0 8 rfl rfl)
theorem dX8_isIn_11 : decode cX8_isIn 11 = .ok (.aload_n 0, 1) := dk_42 (dk_at dksX8_isIn_0 11 rfl rfl)
theorem dX8_isIn_12 : decode cX8_isIn 12 = .ok (.getfield 3, 3) := dk_180 0 3 (dk_at dksX8_isIn_0 12 rfl rfl)
theorem dX8_isIn_15 : decode cX8_isIn 15 = .ok (.getfield 39, 3) := dk_180 0 39 (dk_at dksX8_isIn_0 15 rfl rfl)
theorem dX8_isIn_18 : decode cX8_isIn 18 = .ok (.aload_n 0, 1) := dk_42 (dk_at dksX8_isIn_0 18 rfl rfl)
theorem dX8_isIn_19 : decode cX8_isIn 19 = .ok (.getfield 36, 3) := dk_180 0 36 (dk_at dksX8_isIn_0 19 rfl rfl)
theorem dX8_isIn_22 : decode cX8_isIn 22 = .ok (.baload, 1) := dk_51 (dk_at dksX8_isIn_0 22 rfl rfl)
theorem dX8_isIn_23 : decode cX8_isIn 23 = .ok (.iload_n 1, 1) := dk_27 (dk_at dksX8_isIn_0 23 rfl rfl)
theorem dX8_isIn_24 : decode cX8_isIn 24 = .ok (.if_icmp .lt 23, 3) := dk_161 0 23 (dk_at dksX8_isIn_1 0 rfl rfl)
theorem dX8_isIn_27 : decode cX8_isIn 27 = .ok (.aload_n 0, 1) := dk_42 (dk_at dksX8_isIn_1 3 rfl rfl)
theorem dX8_isIn_28 : decode cX8_isIn 28 = .ok (.getfield 3, 3) := dk_180 0 3 (dk_at dksX8_isIn_1 4 rfl rfl)
theorem dX8_isIn_31 : decode cX8_isIn 31 = .ok (.getfield 39, 3) := dk_180 0 39 (dk_at dksX8_isIn_1 7 rfl rfl)
theorem dX8_isIn_34 : decode cX8_isIn 34 = .ok (.aload_n 0, 1) := dk_42 (dk_at dksX8_isIn_1 10 rfl rfl)
theorem dX8_isIn_35 : decode cX8_isIn 35 = .ok (.getfield 36, 3) := dk_180 0 36 (dk_at dksX8_isIn_1 11 rfl rfl)
theorem dX8_isIn_38 : decode cX8_isIn 38 = .ok (.baload, 1) := dk_51 (dk_at dksX8_isIn_1 14 rfl rfl)
theorem dX8_isIn_39 : decode cX8_isIn 39 = .ok (.iload_n 2, 1) := dk_28 (dk_at dksX8_isIn_1 15 rfl rfl)
theorem dX8_isIn_40 : decode cX8_isIn 40 = .ok (.if_icmp .gt 7, 3) := dk_163 0 7 (dk_at dksX8_isIn_1 16 rfl rfl)
theorem dX8_isIn_43 : decode cX8_isIn 43 = .ok (.iconst 1, 1) := dk_4 (dk_at dksX8_isIn_1 19 rfl rfl)
theorem dX8_isIn_44 : decode cX8_isIn 44 = .ok (.goto 4, 3) := dk_167 0 4 (dk_at dksX8_isIn_1 20 rfl rfl)
theorem dX8_isIn_47 : decode cX8_isIn 47 = .ok (.iconst 0, 1) := dk_3 (dk_at dksX8_isIn_1 23 rfl rfl)
theorem dX8_isIn_48 : decode cX8_isIn 48 = .ok (.ireturn, 1) := dk_172 (dk_at dksX8_isIn_2 0 rfl rfl)
def dkwX8_need_0 : List UInt8 := [27, 154, 0, 16, 187, 0, 42, 89, 28, 42, 180, 0, 44, 183, 0, 47, 191, 177]
abbrev dktX8_need_0 : List UInt8 := dkwX8_need_0 ++ []
theorem dksX8_need_0 : cX8_need.data.toList.drop 0 = dktX8_need_0 := by decide +kernel
theorem dX8_need_0 : decode cX8_need 0 = .ok (.iload_n 1, 1) := dk_27 (dk_at dksX8_need_0 0 rfl rfl)
theorem dX8_need_1 : decode cX8_need 1 = .ok (.ifCond .ne 16, 3) := dk_154 0 16 (dk_at dksX8_need_0 1 rfl rfl)
theorem dX8_need_4 : decode cX8_need 4 = .ok (.new 42, 3) := dk_187 0 42 (dk_at dksX8_need_0 4 rfl rfl)
theorem dX8_need_7 : decode cX8_need 7 = .ok (.dup, 1) := dk_89 (dk_at dksX8_need_0 7 rfl rfl)
theorem dX8_need_8 : decode cX8_need 8 = .ok (.iload_n 2, 1) := dk_28 (dk_at dksX8_need_0 8 rfl rfl)
theorem dX8_need_9 : decode cX8_need 9 = .ok (.aload_n 0, 1) := dk_42 (dk_at dksX8_need_0 9 rfl rfl)
theorem dX8_need_10 : decode cX8_need 10 = .ok (.getfield 44, 3) := dk_180 0 44 (dk_at dksX8_need_0 10 rfl rfl)
theorem dX8_need_13 : decode cX8_need 13 = .ok (.invokespecial 47, 3) := dk_183 0 47 (dk_at dksX8_need_0 13 rfl rfl)
theorem dX8_need_16 : decode cX8_need 16 = .ok (.athrow, 1) := dk_191 (dk_at dksX8_need_0 16 rfl rfl)
theorem dX8_need_17 : decode cX8_need 17 = .ok (.return_, 1) := dk_177 (dk_at dksX8_need_0 17 rfl rfl)
def dkwX8_lines_2 : List UInt8 := [182, 0, 176, 154, 0, 7, 4, 167, 0, 4, 3, 16, 7, 182, 0, 100, 27, 172]
abbrev dktX8_lines_2 : List UInt8 := dkwX8_lines_2 ++ []
def dkwX8_lines_1 : List UInt8 := [42, 180, 0, 18, 180, 0, 155, 162, 0, 7, 4, 167, 0, 4, 3, 16, 6, 182, 0, 100, 42, 42]
abbrev dktX8_lines_1 : List UInt8 := dkwX8_lines_1 ++ dktX8_lines_2
def dkwX8_lines_0 : List UInt8 := [3, 60, 42, 180, 0, 83, 153, 0, 13, 42, 182, 0, 173, 132, 1, 1, 167, 255, 242, 42, 42, 180, 0, 26]
abbrev dktX8_lines_0 : List UInt8 := dkwX8_lines_0 ++ dktX8_lines_1
theorem dksX8_lines_0 : cX8_lines.data.toList.drop 0 = dktX8_lines_0 := by decide +kernel
theorem dksX8_lines_1 : cX8_lines.data.toList.drop 24 = dktX8_lines_1 := dk_seg dksX8_lines_0 24 rfl rfl
theorem dksX8_lines_2 : cX8_lines.data.toList.drop 46 = dktX8_lines_2 := dk_seg dksX8_lines_1 22 rfl rfl
theorem dX8_lines_0 : decode cX8_lines 0 = .ok (.iconst 0, 1) := dk_3 (dk_at dksX8_lines_0 0 rfl rfl)
theorem dX8_lines_1 : decode cX8_lines 1 = .ok (.istore_n 1, 1) := dk_60 (dk_at dksX8_lines_0 1 rfl rfl)
theorem dX8_lines_2 : decode cX8_lines 2 = .ok (.aload_n 0, 1) := dk_42 (dk_at dksX8_lines_0 2 rfl rfl)
theorem dX8_lines_3 : decode cX8_lines 3 = .ok (.getfield 83, 3) := dk_180 0 83 (dk_at dksX8_lines_0 3 rfl rfl)
theorem dX8_lines_6 : decode cX8_lines 6 = .ok (.ifCond .eq 13, 3) := dk_153 0 13 (dk_at dksX8_lines_0 6 rfl rfl)
theorem dX8_lines_9 : decode cX8_lines 9 = .ok (.aload_n 0, 1) := dk_42 (dk_at dksX8_lines_0 9 rfl rfl)
theorem dX8_lines_10 : decode cX8_lines 10 = .ok (.invokevirtual 173, 3) := dk_182 0 173 (dk_at dksX8_lines_0 10 rfl rfl)
theorem dX8_lines_13 : decode cX8_lines 13 = .ok (.iinc 1 1, 3) := dk_132 1 1 (dk_at dksX8_lines_0 13 rfl rfl)
theorem dX8_lines_16 : decode cX8_lines 16 = .ok (.goto (-14), 3) := dk_167 255 242 (dk_at dksX8_lines_0 16 rfl rfl)
theorem dX8_lines_19 : decode cX8_lines 19 = .ok (.aload_n 0, 1) := dk_42 (dk_at dksX8_lines_0 19 rfl rfl)
theorem dX8_lines_20 : decode cX8_lines 20 = .ok (.aload_n 0, 1) := dk_42 (dk_at dksX8_lines_0 20 rfl rfl)
theorem dX8_lines_21 : decode cX8_lines 21 = .ok (.getfield 26, 3) := dk_180 0 26 (dk_at dksX8_lines_0 21 rfl rfl)
theorem dX8_lines_24 : decode cX8_lines 24 = .ok (.aload_n 0, 1) := dk_42 (dk_at dksX8_lines_1 0 rfl rfl)
theorem dX8_lines_25 : decode cX8_lines 25 = .ok (.getfield 18, 3) := dk_180 0 18 (dk_at dksX8_lines_1 1 rfl rfl)
theorem dX8_lines_28 : decode cX8_lines 28 = .ok (.getfield 155, 3) := dk_180 0 155 (dk_at dksX8_lines_1 4 rfl rfl)
theorem dX8_lines_31 : decode cX8_lines 31 = .ok (.if_icmp .ge 7, 3) := dk_162 0 7 (dk_at dksX8_lines_1 7 rfl rfl)
theorem dX8_lines_34 : decode cX8_lines 34 = .ok (.iconst 1, 1) := dk_4 (dk_at dksX8_lines_1 10 rfl rfl)
theorem dX8_lines_35 : decode cX8_lines 35 = .ok (.goto 4, 3) := dk_167 0 4 (dk_at dksX8_lines_1 11 rfl rfl)
theorem dX8_lines_38 : decode cX8_lines 38 = .ok (.iconst 0, 1) := dk_3 (dk_at dksX8_lines_1 14 rfl rfl)
theorem dX8_lines_39 : decode cX8_lines 39 = .ok (.bipush 6, 2) := dk_16 6 (dk_at dksX8_lines_1 15 rfl rfl)
theorem dX8_lines_41 : decode cX8_lines 41 = .ok (.invokevirtual 100, 3) := dk_182 0 100 (dk_at dksX8_lines_1 17 rfl rfl)
theorem dX8_lines_44 : decode cX8_lines 44 = .ok (.aload_n 0, 1) := dk_42 (dk_at dksX8_lines_1 20 rfl rfl)
theorem dX8_lines_45 : decode cX8_lines 45 = .ok (.aload_n 0, 1) := dk_42 (dk_at dksX8_lines_1 21 rfl rfl)
theorem dX8_lines_46 : decode cX8_lines 46 = .ok (.invokevirtual 176, 3) := dk_182 0 176 (dk_at dksX8_lines_2 0 rfl rfl)
theorem dX8_lines_49 : decode cX8_lines 49 = .ok (.ifCond .ne 7, 3) := dk_154 0 7 (dk_at dksX8_lines_2 3 rfl rfl)
theorem dX8_lines_52 : decode cX8_lines 52 = .ok (.iconst 1, 1) := dk_4 (dk_at dksX8_lines_2 6 rfl rfl)
theorem dX8_lines_53 : decode cX8_lines 53 = .ok (.goto 4, 3) := dk_167 0 4 (dk_at dksX8_lines_2 7 rfl rfl)
theorem dX8_lines_56 : decode cX8_lines 56 = .ok (.iconst 0, 1) := dk_3 (dk_at dksX8_lines_2 10 rfl rfl)
theorem dX8_lines_57 : decode cX8_lines 57 = .ok (.bipush 7, 2) := dk_16 7 (dk_at dksX8_lines_2 11 rfl rfl)
theorem dX8_lines_59 : decode cX8_lines 59 = .ok (.invokevirtual 100, 3) := dk_182 0 100 (dk_at dksX8_lines_2 13 rfl rfl)
theorem dX8_lines_62 : decode cX8_lines 62 = .ok (.iload_n 1, 1) := dk_27 (dk_at dksX8_lines_2 16 rfl rfl)
theorem dX8_lines_63 : decode cX8_lines 63 = .ok (.ireturn, 1) := dk_172 (dk_at dksX8_lines_2 17 rfl rfl)
def dkwX8_line_5 : List UInt8 := [182, 0, 100, 42, 182, 0, 33, 177]
abbrev dktX8_line_5 : List UInt8 := dkwX8_line_5 ++ []
def dkwX8_line_4 : List UInt8 := [182, 0, 33, 42, 27, 182, 0, 170, 42, 42, 180, 0, 83, 6, 160, 0, 7, 4, 167, 0, 4, 3, 5]
abbrev dktX8_line_4 : List UInt8 := dkwX8_line_4 ++ dktX8_line_5
def dkwX8_line_3 : List UInt8 := [182, 0, 100, 42, 89, 180, 0, 166, 27, 16, 8, 160, 0, 7, 4, 167, 0, 4, 3, 128, 181, 0, 166, 42]
abbrev dktX8_line_3 : List UInt8 := dkwX8_line_3 ++ dktX8_line_4
def dkwX8_line_2 : List UInt8 := [182, 0, 100, 42, 27, 16, 8, 160, 0, 10, 42, 180, 0, 166, 154, 0, 7, 4, 167, 0, 4, 3, 7]
abbrev dktX8_line_2 : List UInt8 := dkwX8_line_2 ++ dktX8_line_3
def dkwX8_line_1 : List UInt8 := [162, 0, 21, 27, 16, 10, 160, 0, 11, 42, 180, 0, 140, 7, 162, 0, 7, 4, 167, 0, 4, 3, 8]
abbrev dktX8_line_1 : List UInt8 := dkwX8_line_1 ++ dktX8_line_2
def dkwX8_line_0 : List UInt8 := [42, 3, 16, 10, 182, 0, 149, 60, 42, 27, 7, 162, 0, 14, 42, 180, 0, 18, 180, 0, 143, 7]
abbrev dktX8_line_0 : List UInt8 := dkwX8_line_0 ++ dktX8_line_1
theorem dksX8_line_0 : cX8_line.data.toList.drop 0 = dktX8_line_0 := by decide +kernel
theorem dksX8_line_1 : cX8_line.data.toList.drop 22 = dktX8_line_1 := dk_seg dksX8_line_0 22 rfl rfl
theorem dksX8_line_2 : cX8_line.data.toList.drop 45 = dktX8_line_2 := dk_seg dksX8_line_1 23 rfl rfl
theorem dksX8_line_3 : cX8_line.data.toList.drop 68 = dktX8_line_3 := dk_seg dksX8_line_2 23 rfl rfl
theorem dksX8_line_4 : cX8_line.data.toList.drop 92 = dktX8_line_4 := dk_seg dksX8_line_3 24 rfl rfl
theorem dksX8_line_5 : cX8_line.data.toList.drop 115 = dktX8_line_5 := dk_seg dksX8_line_4 23 rfl rfl
theorem dX8_line_0 : decode cX8_line 0 = .ok (.aload_n 0, 1) := dk_42 (dk_at dksX8_line_0 0 rfl rfl)
theorem dX8_line_1 : decode cX8_line 1 = .ok (.iconst 0, 1) := dk_3 (dk_at dksX8_line_0 1 rfl rfl)
theorem dX8_line_2 : decode cX8_line 2 = .ok (.bipush 10, 2) := dk_16 10 (dk_at dksX8_line_0 2 rfl rfl)
theorem dX8_line_4 : decode cX8_line 4 = .ok (.invokevirtual 149, 3) := dk_182 0 149 (dk_at dksX8_line_0 4 rfl rfl)
theorem dX8_line_7 : decode cX8_line 7 = .ok (.istore_n 1, 1) := dk_60 (dk_at dksX8_line_0 7 rfl rfl)
theorem dX8_line_8 : decode cX8_line 8 = .ok (.aload_n 0, 1) := dk_42 (dk_at dksX8_line_0 8 rfl rfl)
theorem dX8_line_9 : decode cX8_line 9 = .ok (.iload_n 1, 1) := dk_27 (dk_at dksX8_line_0 9 rfl rfl)
theorem dX8_line_10 : decode cX8_line 10 = .ok (.iconst 4, 1) := dk_7 (dk_at dksX8_line_0 10 rfl rfl)
theorem dX8_line_11 : decode cX8_line 11 = .ok (.if_icmp .ge 14, 3) := dk_162 0 14 (dk_at dksX8_line_0 11 rfl rfl)
theorem dX8_line_14 : decode cX8_line 14 = .ok (.aload_n 0, 1) := dk_42 (dk_at dksX8_line_0 14 rfl rfl)
theorem dX8_line_15 : decode cX8_line 15 = .ok (.getfield 18, 3) := dk_180 0 18 (dk_at dksX8_line_0 15 rfl rfl)
theorem dX8_line_18 : decode cX8_line 18 = .ok (.getfield 143, 3) := dk_180 0 143 (dk_at dksX8_line_0 18 rfl rfl)
theorem dX8_line_21 : decode cX8_line 21 = .ok (.iconst 4, 1) := dk_7 (dk_at dksX8_line_0 21 rfl rfl)
theorem dX8_line_22 : decode cX8_line 22 = .ok (.if_icmp .ge 21, 3) := dk_162 0 21 (dk_at dksX8_line_1 0 rfl rfl)
theorem dX8_line_25 : decode cX8_line 25 = .ok (.iload_n 1, 1) := dk_27 (dk_at dksX8_line_1 3 rfl rfl)
theorem dX8_line_26 : decode cX8_line 26 = .ok (.bipush 10, 2) := dk_16 10 (dk_at dksX8_line_1 4 rfl rfl)
theorem dX8_line_28 : decode cX8_line 28 = .ok (.if_icmp .ne 11, 3) := dk_160 0 11 (dk_at dksX8_line_1 6 rfl rfl)
theorem dX8_line_31 : decode cX8_line 31 = .ok (.aload_n 0, 1) := dk_42 (dk_at dksX8_line_1 9 rfl rfl)
theorem dX8_line_32 : decode cX8_line 32 = .ok (.getfield 140, 3) := dk_180 0 140 (dk_at dksX8_line_1 10 rfl rfl)
theorem dX8_line_35 : decode cX8_line 35 = .ok (.iconst 4, 1) := dk_7 (dk_at dksX8_line_1 13 rfl rfl)
theorem dX8_line_36 : decode cX8_line 36 = .ok (.if_icmp .ge 7, 3) := dk_162 0 7 (dk_at dksX8_line_1 14 rfl rfl)
theorem dX8_line_39 : decode cX8_line 39 = .ok (.iconst 1, 1) := dk_4 (dk_at dksX8_line_1 17 rfl rfl)
theorem dX8_line_40 : decode cX8_line 40 = .ok (.goto 4, 3) := dk_167 0 4 (dk_at dksX8_line_1 18 rfl rfl)
theorem dX8_line_43 : decode cX8_line 43 = .ok (.iconst 0, 1) := dk_3 (dk_at dksX8_line_1 21 rfl rfl)
theorem dX8_line_44 : decode cX8_line 44 = .ok (.iconst 5, 1) := dk_8 (dk_at dksX8_line_1 22 rfl rfl)
theorem dX8_line_45 : decode cX8_line 45 = .ok (.invokevirtual 100, 3) := dk_182 0 100 (dk_at dksX8_line_2 0 rfl rfl)
theorem dX8_line_48 : decode cX8_line 48 = .ok (.aload_n 0, 1) := dk_42 (dk_at dksX8_line_2 3 rfl rfl)
theorem dX8_line_49 : decode cX8_line 49 = .ok (.iload_n 1, 1) := dk_27 (dk_at dksX8_line_2 4 rfl rfl)
theorem dX8_line_50 : decode cX8_line 50 = .ok (.bipush 8, 2) := dk_16 8 (dk_at dksX8_line_2 5 rfl rfl)
theorem dX8_line_52 : decode cX8_line 52 = .ok (.if_icmp .ne 10, 3) := dk_160 0 10 (dk_at dksX8_line_2 7 rfl rfl)
theorem dX8_line_55 : decode cX8_line 55 = .ok (.aload_n 0, 1) := dk_42 (dk_at dksX8_line_2 10 rfl rfl)
theorem dX8_line_56 : decode cX8_line 56 = .ok (.getfield 166, 3) := dk_180 0 166 (dk_at dksX8_line_2 11 rfl rfl)
theorem dX8_line_59 : decode cX8_line 59 = .ok (.ifCond .ne 7, 3) := dk_154 0 7 (dk_at dksX8_line_2 14 rfl rfl)
theorem dX8_line_62 : decode cX8_line 62 = .ok (.iconst 1, 1) := dk_4 (dk_at dksX8_line_2 17 rfl rfl)
theorem dX8_line_63 : decode cX8_line 63 = .ok (.goto 4, 3) := dk_167 0 4 (dk_at dksX8_line_2 18 rfl rfl)
theorem dX8_line_66 : decode cX8_line 66 = .ok (.iconst 0, 1) := dk_3 (dk_at dksX8_line_2 21 rfl rfl)
theorem dX8_line_67 : decode cX8_line 67 = .ok (.iconst 4, 1) := dk_7 (dk_at dksX8_line_2 22 rfl rfl)
theorem dX8_line_68 : decode cX8_line 68 = .ok (.invokevirtual 100, 3) := dk_182 0 100 (dk_at dksX8_line_3 0 rfl rfl)
theorem dX8_line_71 : decode cX8_line 71 = .ok (.aload_n 0, 1) := dk_42 (dk_at dksX8_line_3 3 rfl rfl)
theorem dX8_line_72 : decode cX8_line 72 = .ok (.dup, 1) := dk_89 (dk_at dksX8_line_3 4 rfl rfl)
theorem dX8_line_73 : decode cX8_line 73 = .ok (.getfield 166, 3) := dk_180 0 166 (dk_at dksX8_line_3 5 rfl rfl)
theorem dX8_line_76 : decode cX8_line 76 = .ok (.iload_n 1, 1) := dk_27 (dk_at dksX8_line_3 8 rfl rfl)
theorem dX8_line_77 : decode cX8_line 77 = .ok (.bipush 8, 2) := dk_16 8 (dk_at dksX8_line_3 9 rfl rfl)
theorem dX8_line_79 : decode cX8_line 79 = .ok (.if_icmp .ne 7, 3) := dk_160 0 7 (dk_at dksX8_line_3 11 rfl rfl)
theorem dX8_line_82 : decode cX8_line 82 = .ok (.iconst 1, 1) := dk_4 (dk_at dksX8_line_3 14 rfl rfl)
theorem dX8_line_83 : decode cX8_line 83 = .ok (.goto 4, 3) := dk_167 0 4 (dk_at dksX8_line_3 15 rfl rfl)
theorem dX8_line_86 : decode cX8_line 86 = .ok (.iconst 0, 1) := dk_3 (dk_at dksX8_line_3 18 rfl rfl)
theorem dX8_line_87 : decode cX8_line 87 = .ok (.ior, 1) := dk_128 (dk_at dksX8_line_3 19 rfl rfl)
theorem dX8_line_88 : decode cX8_line 88 = .ok (.putfield 166, 3) := dk_181 0 166 (dk_at dksX8_line_3 20 rfl rfl)
theorem dX8_line_91 : decode cX8_line 91 = .ok (.aload_n 0, 1) := dk_42 (dk_at dksX8_line_3 23 rfl rfl)
theorem dX8_line_92 : decode cX8_line 92 = .ok (.invokevirtual 33, 3) := dk_182 0 33 (dk_at dksX8_line_4 0 rfl rfl)
theorem dX8_line_95 : decode cX8_line 95 = .ok (.aload_n 0, 1) := dk_42 (dk_at dksX8_line_4 3 rfl rfl)
theorem dX8_line_96 : decode cX8_line 96 = .ok (.iload_n 1, 1) := dk_27 (dk_at dksX8_line_4 4 rfl rfl)
theorem dX8_line_97 : decode cX8_line 97 = .ok (.invokevirtual 170, 3) := dk_182 0 170 (dk_at dksX8_line_4 5 rfl rfl)
theorem dX8_line_100 : decode cX8_line 100 = .ok (.aload_n 0, 1) := dk_42 (dk_at dksX8_line_4 8 rfl rfl)
theorem dX8_line_101 : decode cX8_line 101 = .ok (.aload_n 0, 1) := dk_42 (dk_at dksX8_line_4 9 rfl rfl)
theorem dX8_line_102 : decode cX8_line 102 = .ok (.getfield 83, 3) := dk_180 0 83 (dk_at dksX8_line_4 10 rfl rfl)
theorem dX8_line_105 : decode cX8_line 105 = .ok (.iconst 3, 1) := dk_6 (dk_at dksX8_line_4 13 rfl rfl)
theorem dX8_line_106 : decode cX8_line 106 = .ok (.if_icmp .ne 7, 3) := dk_160 0 7 (dk_at dksX8_line_4 14 rfl rfl)
theorem dX8_line_109 : decode cX8_line 109 = .ok (.iconst 1, 1) := dk_4 (dk_at dksX8_line_4 17 rfl rfl)
theorem dX8_line_110 : decode cX8_line 110 = .ok (.goto 4, 3) := dk_167 0 4 (dk_at dksX8_line_4 18 rfl rfl)
theorem dX8_line_113 : decode cX8_line 113 = .ok (.iconst 0, 1) := dk_3 (dk_at dksX8_line_4 21 rfl rfl)
theorem dX8_line_114 : decode cX8_line 114 = .ok (.iconst 2, 1) := dk_5 (dk_at dksX8_line_4 22 rfl rfl)
theorem dX8_line_115 : decode cX8_line 115 = .ok (.invokevirtual 100, 3) := dk_182 0 100 (dk_at dksX8_line_5 0 rfl rfl)
theorem dX8_line_118 : decode cX8_line 118 = .ok (.aload_n 0, 1) := dk_42 (dk_at dksX8_line_5 3 rfl rfl)
theorem dX8_line_119 : decode cX8_line 119 = .ok (.invokevirtual 33, 3) := dk_182 0 33 (dk_at dksX8_line_5 4 rfl rfl)
theorem dX8_line_122 : decode cX8_line 122 = .ok (.return_, 1) := dk_177 (dk_at dksX8_line_5 7 rfl rfl)
def dkwX8_which_1 : List UInt8 := [163, 0, 7, 4, 167, 0, 4, 3, 5, 182, 0, 100, 29, 172]
abbrev dktX8_which_1 : List UInt8 := dkwX8_which_1 ++ []
def dkwX8_which_0 : List UInt8 := [27, 62, 29, 28, 163, 0, 17, 42, 29, 182, 0, 96, 154, 0, 9, 132, 3, 1, 167, 255, 240, 42, 29, 28]
abbrev dktX8_which_0 : List UInt8 := dkwX8_which_0 ++ dktX8_which_1
theorem dksX8_which_0 : cX8_which.data.toList.drop 0 = dktX8_which_0 := by decide +kernel
theorem dksX8_which_1 : cX8_which.data.toList.drop 24 = dktX8_which_1 := dk_seg dksX8_which_0 24 rfl rfl
theorem dX8_which_0 : decode cX8_which 0 = .ok (.iload_n 1, 1) := dk_27 (dk_at dksX8_which_0 0 rfl rfl)
theorem dX8_which_1 : decode cX8_which 1 = .ok (.istore_n 3, 1) := dk_62 (dk_at dksX8_which_0 1 rfl rfl)
theorem dX8_which_2 : decode cX8_which 2 = .ok (.iload_n 3, 1) := dk_29 (dk_at dksX8_which_0 2 rfl rfl)
theorem dX8_which_3 : decode cX8_which 3 = .ok (.iload_n 2, 1) := dk_28 (dk_at dksX8_which_0 3 rfl rfl)
theorem dX8_which_4 : decode cX8_which 4 = .ok (.if_icmp .gt 17, 3) := dk_163 0 17 (dk_at dksX8_which_0 4 rfl rfl)
theorem dX8_which_7 : decode cX8_which 7 = .ok (.aload_n 0, 1) := dk_42 (dk_at dksX8_which_0 7 rfl rfl)
theorem dX8_which_8 : decode cX8_which 8 = .ok (.iload_n 3, 1) := dk_29 (dk_at dksX8_which_0 8 rfl rfl)
theorem dX8_which_9 : decode cX8_which 9 = .ok (.invokevirtual 96, 3) := dk_182 0 96 (dk_at dksX8_which_0 9 rfl rfl)
theorem dX8_which_12 : decode cX8_which 12 = .ok (.ifCond .ne 9, 3) := dk_154 0 9 (dk_at dksX8_which_0 12 rfl rfl)
theorem dX8_which_15 : decode cX8_which 15 = .ok (.iinc 3 1, 3) := dk_132 3 1 (dk_at dksX8_which_0 15 rfl rfl)
theorem dX8_which_18 : decode cX8_which 18 = .ok (.goto (-16), 3) := dk_167 255 240 (dk_at dksX8_which_0 18 rfl rfl)
theorem dX8_which_21 : decode cX8_which 21 = .ok (.aload_n 0, 1) := dk_42 (dk_at dksX8_which_0 21 rfl rfl)
theorem dX8_which_22 : decode cX8_which 22 = .ok (.iload_n 3, 1) := dk_29 (dk_at dksX8_which_0 22 rfl rfl)
theorem dX8_which_23 : decode cX8_which 23 = .ok (.iload_n 2, 1) := dk_28 (dk_at dksX8_which_0 23 rfl rfl)
theorem dX8_which_24 : decode cX8_which 24 = .ok (.if_icmp .gt 7, 3) := dk_163 0 7 (dk_at dksX8_which_1 0 rfl rfl)
theorem dX8_which_27 : decode cX8_which 27 = .ok (.iconst 1, 1) := dk_4 (dk_at dksX8_which_1 3 rfl rfl)
theorem dX8_which_28 : decode cX8_which 28 = .ok (.goto 4, 3) := dk_167 0 4 (dk_at dksX8_which_1 4 rfl rfl)
theorem dX8_which_31 : decode cX8_which 31 = .ok (.iconst 0, 1) := dk_3 (dk_at dksX8_which_1 7 rfl rfl)
theorem dX8_which_32 : decode cX8_which 32 = .ok (.iconst 2, 1) := dk_5 (dk_at dksX8_which_1 8 rfl rfl)
theorem dX8_which_33 : decode cX8_which 33 = .ok (.invokevirtual 100, 3) := dk_182 0 100 (dk_at dksX8_which_1 9 rfl rfl)
theorem dX8_which_36 : decode cX8_which 36 = .ok (.iload_n 3, 1) := dk_29 (dk_at dksX8_which_1 12 rfl rfl)
theorem dX8_which_37 : decode cX8_which 37 = .ok (.ireturn, 1) := dk_172 (dk_at dksX8_which_1 13 rfl rfl)
def dkwX8_is_3 : List UInt8 := [182, 0, 92, 160, 0, 7, 4, 167, 0, 4, 3, 62, 132, 4, 1, 167, 255, 210, 29, 172]
abbrev dktX8_is_3 : List UInt8 := dkwX8_is_3 ++ []
def dkwX8_is_2 : List UInt8 := [182, 0, 86, 162, 0, 39, 42, 180, 0, 3, 180, 0, 39, 42, 180, 0, 44, 21, 4, 96, 51, 44, 21, 4]
abbrev dktX8_is_2 : List UInt8 := dkwX8_is_2 ++ dktX8_is_3
def dkwX8_is_1 : List UInt8 := [182, 0, 86, 160, 0, 7, 4, 167, 0, 4, 3, 62, 3, 54, 4, 29, 153, 0, 48, 21, 4, 44]
abbrev dktX8_is_1 : List UInt8 := dkwX8_is_1 ++ dktX8_is_2
def dkwX8_is_0 : List UInt8 := [42, 27, 182, 0, 80, 77, 42, 180, 0, 83, 4, 160, 0, 23, 42, 180, 0, 36, 42, 180, 0, 44, 100, 44]
abbrev dktX8_is_0 : List UInt8 := dkwX8_is_0 ++ dktX8_is_1
theorem dksX8_is_0 : cX8_is.data.toList.drop 0 = dktX8_is_0 := by decide +kernel
theorem dksX8_is_1 : cX8_is.data.toList.drop 24 = dktX8_is_1 := dk_seg dksX8_is_0 24 rfl rfl
theorem dksX8_is_2 : cX8_is.data.toList.drop 46 = dktX8_is_2 := dk_seg dksX8_is_1 22 rfl rfl
theorem dksX8_is_3 : cX8_is.data.toList.drop 70 = dktX8_is_3 := dk_seg dksX8_is_2 24 rfl rfl
theorem dX8_is_0 : decode cX8_is 0 = .ok (.aload_n 0, 1) := dk_42 (dk_at dksX8_is_0 0 rfl rfl)
theorem dX8_is_1 : decode cX8_is 1 = .ok (.iload_n 1, 1) := dk_27 (dk_at dksX8_is_0 1 rfl rfl)
theorem dX8_is_2 : decode cX8_is 2 = .ok (.invokevirtual 80, 3) := dk_182 0 80 (dk_at dksX8_is_0 2 rfl rfl)
theorem dX8_is_5 : decode cX8_is 5 = .ok (.astore_n 2, 1) := dk_77 (dk_at dksX8_is_0 5 rfl rfl)
theorem dX8_is_6 : decode cX8_is 6 = .ok (.aload_n 0, 1) := dk_42 (dk_at dksX8_is_0 6 rfl rfl)
theorem dX8_is_7 : decode cX8_is 7 = .ok (.getfield 83, 3) := dk_180 0 83 (dk_at dksX8_is_0 7 rfl rfl)
theorem dX8_is_10 : decode cX8_is 10 = .ok (.iconst 1, 1) := dk_4 (dk_at dksX8_is_0 10 rfl rfl)
theorem dX8_is_11 : decode cX8_is 11 = .ok (.if_icmp .ne 23, 3) := dk_160 0 23 (dk_at dksX8_is_0 11 rfl rfl)
theorem dX8_is_14 : decode cX8_is 14 = .ok (.aload_n 0, 1) := dk_42 (dk_at dksX8_is_0 14 rfl rfl)
theorem dX8_is_15 : decode cX8_is 15 = .ok (.getfield 36, 3) := dk_180 0 36 (dk_at dksX8_is_0 15 rfl rfl)
theorem dX8_is_18 : decode cX8_is 18 = .ok (.aload_n 0, 1) := dk_42 (dk_at dksX8_is_0 18 rfl rfl)
theorem dX8_is_19 : decode cX8_is 19 = .ok (.getfield 44, 3) := dk_180 0 44 (dk_at dksX8_is_0 19 rfl rfl)
theorem dX8_is_22 : decode cX8_is 22 = .ok (.isub, 1) := dk_100 (dk_at dksX8_is_0 22 rfl rfl)
theorem dX8_is_23 : decode cX8_is 23 = .ok (.aload_n 2, 1) := dk_44 (dk_at dksX8_is_0 23 rfl rfl)
theorem dX8_is_24 : decode cX8_is 24 = .ok (.invokevirtual 86, 3) := dk_182 0 86 (dk_at dksX8_is_1 0 rfl rfl)
theorem dX8_is_27 : decode cX8_is 27 = .ok (.if_icmp .ne 7, 3) := dk_160 0 7 (dk_at dksX8_is_1 3 rfl rfl)
theorem dX8_is_30 : decode cX8_is 30 = .ok (.iconst 1, 1) := dk_4 (dk_at dksX8_is_1 6 rfl rfl)
theorem dX8_is_31 : decode cX8_is 31 = .ok (.goto 4, 3) := dk_167 0 4 (dk_at dksX8_is_1 7 rfl rfl)
theorem dX8_is_34 : decode cX8_is 34 = .ok (.iconst 0, 1) := dk_3 (dk_at dksX8_is_1 10 rfl rfl)
theorem dX8_is_35 : decode cX8_is 35 = .ok (.istore_n 3, 1) := dk_62 (dk_at dksX8_is_1 11 rfl rfl)
theorem dX8_is_36 : decode cX8_is 36 = .ok (.iconst 0, 1) := dk_3 (dk_at dksX8_is_1 12 rfl rfl)
theorem dX8_is_37 : decode cX8_is 37 = .ok (.istore 4, 2) := dk_54 4 (dk_at dksX8_is_1 13 rfl rfl)
theorem dX8_is_39 : decode cX8_is 39 = .ok (.iload_n 3, 1) := dk_29 (dk_at dksX8_is_1 15 rfl rfl)
theorem dX8_is_40 : decode cX8_is 40 = .ok (.ifCond .eq 48, 3) := dk_153 0 48 (dk_at dksX8_is_1 16 rfl rfl)
theorem dX8_is_43 : decode cX8_is 43 = .ok (.iload 4, 2) := dk_21 4 (dk_at dksX8_is_1 19 rfl rfl)
theorem dX8_is_45 : decode cX8_is 45 = .ok (.aload_n 2, 1) := dk_44 (dk_at dksX8_is_1 21 rfl rfl)
theorem dX8_is_46 : decode cX8_is 46 = .ok (.invokevirtual 86, 3) := dk_182 0 86 (dk_at dksX8_is_2 0 rfl rfl)
theorem dX8_is_49 : decode cX8_is 49 = .ok (.if_icmp .ge 39, 3) := dk_162 0 39 (dk_at dksX8_is_2 3 rfl rfl)
theorem dX8_is_52 : decode cX8_is 52 = .ok (.aload_n 0, 1) := dk_42 (dk_at dksX8_is_2 6 rfl rfl)
theorem dX8_is_53 : decode cX8_is 53 = .ok (.getfield 3, 3) := dk_180 0 3 (dk_at dksX8_is_2 7 rfl rfl)
theorem dX8_is_56 : decode cX8_is 56 = .ok (.getfield 39, 3) := dk_180 0 39 (dk_at dksX8_is_2 10 rfl rfl)
theorem dX8_is_59 : decode cX8_is 59 = .ok (.aload_n 0, 1) := dk_42 (dk_at dksX8_is_2 13 rfl rfl)
theorem dX8_is_60 : decode cX8_is 60 = .ok (.getfield 44, 3) := dk_180 0 44 (dk_at dksX8_is_2 14 rfl rfl)
theorem dX8_is_63 : decode cX8_is 63 = .ok (.iload 4, 2) := dk_21 4 (dk_at dksX8_is_2 17 rfl rfl)
theorem dX8_is_65 : decode cX8_is 65 = .ok (.iadd, 1) := dk_96 (dk_at dksX8_is_2 19 rfl rfl)
theorem dX8_is_66 : decode cX8_is 66 = .ok (.baload, 1) := dk_51 (dk_at dksX8_is_2 20 rfl rfl)
theorem dX8_is_67 : decode cX8_is 67 = .ok (.aload_n 2, 1) := dk_44 (dk_at dksX8_is_2 21 rfl rfl)
theorem dX8_is_68 : decode cX8_is 68 = .ok (.iload 4, 2) := dk_21 4 (dk_at dksX8_is_2 22 rfl rfl)
theorem dX8_is_70 : decode cX8_is 70 = .ok (.invokevirtual 92, 3) := dk_182 0 92 (dk_at dksX8_is_3 0 rfl rfl)
theorem dX8_is_73 : decode cX8_is 73 = .ok (.if_icmp .ne 7, 3) := dk_160 0 7 (dk_at dksX8_is_3 3 rfl rfl)
theorem dX8_is_76 : decode cX8_is 76 = .ok (.iconst 1, 1) := dk_4 (dk_at dksX8_is_3 6 rfl rfl)
theorem dX8_is_77 : decode cX8_is 77 = .ok (.goto 4, 3) := dk_167 0 4 (dk_at dksX8_is_3 7 rfl rfl)
theorem dX8_is_80 : decode cX8_is 80 = .ok (.iconst 0, 1) := dk_3 (dk_at dksX8_is_3 10 rfl rfl)
theorem dX8_is_81 : decode cX8_is 81 = .ok (.istore_n 3, 1) := dk_62 (dk_at dksX8_is_3 11 rfl rfl)
theorem dX8_is_82 : decode cX8_is 82 = .ok (.iinc 4 1, 3) := dk_132 4 1 (dk_at dksX8_is_3 12 rfl rfl)
theorem dX8_is_85 : decode cX8_is 85 = .ok (.goto (-46), 3) := dk_167 255 210 (dk_at dksX8_is_3 15 rfl rfl)
theorem dX8_is_88 : decode cX8_is 88 = .ok (.iload_n 3, 1) := dk_29 (dk_at dksX8_is_3 18 rfl rfl)
theorem dX8_is_89 : decode cX8_is 89 = .ok (.ireturn, 1) := dk_172 (dk_at dksX8_is_3 19 rfl rfl)
def dkwX8_name_3 : List UInt8 := [18, 74, 176, 42, 27, 182, 0, 76, 176]
abbrev dktX8_name_3 : List UInt8 := dkwX8_name_3 ++ []
def dkwX8_name_2 : List UInt8 := [18, 58, 176, 18, 60, 176, 18, 62, 176, 18, 64, 176, 18, 66, 176, 18, 68, 176, 18, 70, 176, 18, 72, 176]
abbrev dktX8_name_2 : List UInt8 := dkwX8_name_2 ++ dktX8_name_3
def dkwX8_name_1 : List UInt8 := [170, 0, 0, 0, 0, 0, 78, 0, 0, 0, 4, 0, 0, 0, 12, 0, 0, 0, 51, 0, 0, 0, 54, 0, 0, 0, 57, 0, 0, 0, 60, 0, 0, 0, 63, 0, 0, 0, 66, 0, 0, 0, 69, 0, 0, 0, 72, 0, 0, 0, 75]
abbrev dktX8_name_1 : List UInt8 := dkwX8_name_1 ++ dktX8_name_2
def dkwX8_name_0 : List UInt8 := [27]
abbrev dktX8_name_0 : List UInt8 := dkwX8_name_0 ++ dktX8_name_1
theorem dksX8_name_0 : cX8_name.data.toList.drop 0 = dktX8_name_0 := by decide +kernel
theorem dksX8_name_1 : cX8_name.data.toList.drop 1 = dktX8_name_1 := dk_seg dksX8_name_0 1 rfl rfl
theorem dksX8_name_2 : cX8_name.data.toList.drop 52 = dktX8_name_2 := dk_seg dksX8_name_1 51 rfl rfl
theorem dksX8_name_3 : cX8_name.data.toList.drop 76 = dktX8_name_3 := dk_seg dksX8_name_2 24 rfl rfl
theorem dX8_name_0 : decode cX8_name 0 = .ok (.iload_n 1, 1) := dk_27 (dk_at dksX8_name_0 0 rfl rfl)
theorem dX8_name_1 : decode cX8_name 1 = .ok (.tableswitch 78 4 12 #[51, 54, 57, 60, 63, 66, 69, 72, 75], 51) := by decide +kernel
theorem dX8_name_52 : decode cX8_name 52 = .ok (.ldc 58, 2) := dk_18 58 (dk_at dksX8_name_2 0 rfl rfl)
theorem dX8_name_54 : decode cX8_name 54 = .ok (.areturn, 1) := dk_176 (dk_at dksX8_name_2 2 rfl rfl)
theorem dX8_name_55 : decode cX8_name 55 = .ok (.ldc 60, 2) := dk_18 60 (dk_at dksX8_name_2 3 rfl rfl)
theorem dX8_name_57 : decode cX8_name 57 = .ok (.areturn, 1) := dk_176 (dk_at dksX8_name_2 5 rfl rfl)
theorem dX8_name_58 : decode cX8_name 58 = .ok (.ldc 62, 2) := dk_18 62 (dk_at dksX8_name_2 6 rfl rfl)
theorem dX8_name_60 : decode cX8_name 60 = .ok (.areturn, 1) := dk_176 (dk_at dksX8_name_2 8 rfl rfl)
theorem dX8_name_61 : decode cX8_name 61 = .ok (.ldc 64, 2) := dk_18 64 (dk_at dksX8_name_2 9 rfl rfl)
theorem dX8_name_63 : decode cX8_name 63 = .ok (.areturn, 1) := dk_176 (dk_at dksX8_name_2 11 rfl rfl)
theorem dX8_name_64 : decode cX8_name 64 = .ok (.ldc 66, 2) := dk_18 66 (dk_at dksX8_name_2 12 rfl rfl)
theorem dX8_name_66 : decode cX8_name 66 = .ok (.areturn, 1) := dk_176 (dk_at dksX8_name_2 14 rfl rfl)
theorem dX8_name_67 : decode cX8_name 67 = .ok (.ldc 68, 2) := dk_18 68 (dk_at dksX8_name_2 15 rfl rfl)
theorem dX8_name_69 : decode cX8_name 69 = .ok (.areturn, 1) := dk_176 (dk_at dksX8_name_2 17 rfl rfl)
theorem dX8_name_70 : decode cX8_name 70 = .ok (.ldc 70, 2) := dk_18 70 (dk_at dksX8_name_2 18 rfl rfl)
theorem dX8_name_72 : decode cX8_name 72 = .ok (.areturn, 1) := dk_176 (dk_at dksX8_name_2 20 rfl rfl)
theorem dX8_name_73 : decode cX8_name 73 = .ok (.ldc 72, 2) := dk_18 72 (dk_at dksX8_name_2 21 rfl rfl)
theorem dX8_name_75 : decode cX8_name 75 = .ok (.areturn, 1) := dk_176 (dk_at dksX8_name_2 23 rfl rfl)
theorem dX8_name_76 : decode cX8_name 76 = .ok (.ldc 74, 2) := dk_18 74 (dk_at dksX8_name_3 0 rfl rfl)
theorem dX8_name_78 : decode cX8_name 78 = .ok (.areturn, 1) := dk_176 (dk_at dksX8_name_3 2 rfl rfl)
theorem dX8_name_79 : decode cX8_name 79 = .ok (.aload_n 0, 1) := dk_42 (dk_at dksX8_name_3 3 rfl rfl)
theorem dX8_name_80 : decode cX8_name 80 = .ok (.iload_n 1, 1) := dk_27 (dk_at dksX8_name_3 4 rfl rfl)
theorem dX8_name_81 : decode cX8_name 81 = .ok (.invokevirtual 76, 3) := dk_182 0 76 (dk_at dksX8_name_3 5 rfl rfl)
theorem dX8_name_84 : decode cX8_name 84 = .ok (.areturn, 1) := dk_176 (dk_at dksX8_name_3 8 rfl rfl)
def dkwX8_faith_2 : List UInt8 := [18, 50, 176, 18, 52, 176, 18, 54, 176, 18, 56, 176]
abbrev dktX8_faith_2 : List UInt8 := dkwX8_faith_2 ++ []
def dkwX8_faith_1 : List UInt8 := [170, 0, 0, 0, 0, 0, 36, 0, 0, 0, 0, 0, 0, 0, 2, 0, 0, 0, 27, 0, 0, 0, 30, 0, 0, 0, 33]
abbrev dktX8_faith_1 : List UInt8 := dkwX8_faith_1 ++ dktX8_faith_2
def dkwX8_faith_0 : List UInt8 := [27]
abbrev dktX8_faith_0 : List UInt8 := dkwX8_faith_0 ++ dktX8_faith_1
theorem dksX8_faith_0 : cX8_faith.data.toList.drop 0 = dktX8_faith_0 := by decide +kernel
theorem dksX8_faith_1 : cX8_faith.data.toList.drop 1 = dktX8_faith_1 := dk_seg dksX8_faith_0 1 rfl rfl
theorem dksX8_faith_2 : cX8_faith.data.toList.drop 28 = dktX8_faith_2 := dk_seg dksX8_faith_1 27 rfl rfl
theorem dX8_faith_0 : decode cX8_faith 0 = .ok (.iload_n 1, 1) := dk_27 (dk_at dksX8_faith_0 0 rfl rfl)
theorem dX8_faith_1 : decode cX8_faith 1 = .ok (.tableswitch 36 0 2 #[27, 30, 33], 27) := by decide +kernel
theorem dX8_faith_28 : decode cX8_faith 28 = .ok (.ldc 50, 2) := dk_18 50 (dk_at dksX8_faith_2 0 rfl rfl)
theorem dX8_faith_30 : decode cX8_faith 30 = .ok (.areturn, 1) := dk_176 (dk_at dksX8_faith_2 2 rfl rfl)
theorem dX8_faith_31 : decode cX8_faith 31 = .ok (.ldc 52, 2) := dk_18 52 (dk_at dksX8_faith_2 3 rfl rfl)
theorem dX8_faith_33 : decode cX8_faith 33 = .ok (.areturn, 1) := dk_176 (dk_at dksX8_faith_2 5 rfl rfl)
theorem dX8_faith_34 : decode cX8_faith 34 = .ok (.ldc 54, 2) := dk_18 54 (dk_at dksX8_faith_2 6 rfl rfl)
theorem dX8_faith_36 : decode cX8_faith 36 = .ok (.areturn, 1) := dk_176 (dk_at dksX8_faith_2 8 rfl rfl)
theorem dX8_faith_37 : decode cX8_faith 37 = .ok (.ldc 56, 2) := dk_18 56 (dk_at dksX8_faith_2 9 rfl rfl)
theorem dX8_faith_39 : decode cX8_faith 39 = .ok (.areturn, 1) := dk_176 (dk_at dksX8_faith_2 11 rfl rfl)
def dkwX8_told_4 : List UInt8 := [4, 96, 182, 0, 164, 177]
abbrev dktX8_told_4 : List UInt8 := dkwX8_told_4 ++ []
def dkwX8_told_3 : List UInt8 := [42, 182, 0, 159, 167, 0, 25, 27, 7, 162, 0, 11, 42, 27, 182, 0, 161, 167, 0, 12, 42, 27, 7, 100]
abbrev dktX8_told_3 : List UInt8 := dkwX8_told_3 ++ dktX8_told_4
def dkwX8_told_2 : List UInt8 := [42, 180, 0, 18, 42, 5, 16, 8, 182, 0, 152, 181, 0, 155, 167, 0, 39, 42, 182, 0, 157, 167, 0, 32]
abbrev dktX8_told_2 : List UInt8 := dkwX8_told_2 ++ dktX8_told_3
def dkwX8_told_1 : List UInt8 := [170, 0, 0, 0, 0, 0, 58, 0, 0, 0, 8, 0, 0, 0, 10, 0, 0, 0, 27, 0, 0, 0, 44, 0, 0, 0, 51]
abbrev dktX8_told_1 : List UInt8 := dkwX8_told_1 ++ dktX8_told_2
def dkwX8_told_0 : List UInt8 := [27]
abbrev dktX8_told_0 : List UInt8 := dkwX8_told_0 ++ dktX8_told_1
theorem dksX8_told_0 : cX8_told.data.toList.drop 0 = dktX8_told_0 := by decide +kernel
theorem dksX8_told_1 : cX8_told.data.toList.drop 1 = dktX8_told_1 := dk_seg dksX8_told_0 1 rfl rfl
theorem dksX8_told_2 : cX8_told.data.toList.drop 28 = dktX8_told_2 := dk_seg dksX8_told_1 27 rfl rfl
theorem dksX8_told_3 : cX8_told.data.toList.drop 52 = dktX8_told_3 := dk_seg dksX8_told_2 24 rfl rfl
theorem dksX8_told_4 : cX8_told.data.toList.drop 76 = dktX8_told_4 := dk_seg dksX8_told_3 24 rfl rfl
theorem dX8_told_0 : decode cX8_told 0 = .ok (.iload_n 1, 1) := dk_27 (dk_at dksX8_told_0 0 rfl rfl)
theorem dX8_told_1 : decode cX8_told 1 = .ok (.tableswitch 58 8 10 #[27, 44, 51], 27) := by decide +kernel
theorem dX8_told_28 : decode cX8_told 28 = .ok (.aload_n 0, 1) := dk_42 (dk_at dksX8_told_2 0 rfl rfl)
theorem dX8_told_29 : decode cX8_told 29 = .ok (.getfield 18, 3) := dk_180 0 18 (dk_at dksX8_told_2 1 rfl rfl)
theorem dX8_told_32 : decode cX8_told 32 = .ok (.aload_n 0, 1) := dk_42 (dk_at dksX8_told_2 4 rfl rfl)
theorem dX8_told_33 : decode cX8_told 33 = .ok (.iconst 2, 1) := dk_5 (dk_at dksX8_told_2 5 rfl rfl)
theorem dX8_told_34 : decode cX8_told 34 = .ok (.bipush 8, 2) := dk_16 8 (dk_at dksX8_told_2 6 rfl rfl)
theorem dX8_told_36 : decode cX8_told 36 = .ok (.invokevirtual 152, 3) := dk_182 0 152 (dk_at dksX8_told_2 8 rfl rfl)
theorem dX8_told_39 : decode cX8_told 39 = .ok (.putfield 155, 3) := dk_181 0 155 (dk_at dksX8_told_2 11 rfl rfl)
theorem dX8_told_42 : decode cX8_told 42 = .ok (.goto 39, 3) := dk_167 0 39 (dk_at dksX8_told_2 14 rfl rfl)
theorem dX8_told_45 : decode cX8_told 45 = .ok (.aload_n 0, 1) := dk_42 (dk_at dksX8_told_2 17 rfl rfl)
theorem dX8_told_46 : decode cX8_told 46 = .ok (.invokevirtual 157, 3) := dk_182 0 157 (dk_at dksX8_told_2 18 rfl rfl)
theorem dX8_told_49 : decode cX8_told 49 = .ok (.goto 32, 3) := dk_167 0 32 (dk_at dksX8_told_2 21 rfl rfl)
theorem dX8_told_52 : decode cX8_told 52 = .ok (.aload_n 0, 1) := dk_42 (dk_at dksX8_told_3 0 rfl rfl)
theorem dX8_told_53 : decode cX8_told 53 = .ok (.invokevirtual 159, 3) := dk_182 0 159 (dk_at dksX8_told_3 1 rfl rfl)
theorem dX8_told_56 : decode cX8_told 56 = .ok (.goto 25, 3) := dk_167 0 25 (dk_at dksX8_told_3 4 rfl rfl)
theorem dX8_told_59 : decode cX8_told 59 = .ok (.iload_n 1, 1) := dk_27 (dk_at dksX8_told_3 7 rfl rfl)
theorem dX8_told_60 : decode cX8_told 60 = .ok (.iconst 4, 1) := dk_7 (dk_at dksX8_told_3 8 rfl rfl)
theorem dX8_told_61 : decode cX8_told 61 = .ok (.if_icmp .ge 11, 3) := dk_162 0 11 (dk_at dksX8_told_3 9 rfl rfl)
theorem dX8_told_64 : decode cX8_told 64 = .ok (.aload_n 0, 1) := dk_42 (dk_at dksX8_told_3 12 rfl rfl)
theorem dX8_told_65 : decode cX8_told 65 = .ok (.iload_n 1, 1) := dk_27 (dk_at dksX8_told_3 13 rfl rfl)
theorem dX8_told_66 : decode cX8_told 66 = .ok (.invokevirtual 161, 3) := dk_182 0 161 (dk_at dksX8_told_3 14 rfl rfl)
theorem dX8_told_69 : decode cX8_told 69 = .ok (.goto 12, 3) := dk_167 0 12 (dk_at dksX8_told_3 17 rfl rfl)
theorem dX8_told_72 : decode cX8_told 72 = .ok (.aload_n 0, 1) := dk_42 (dk_at dksX8_told_3 20 rfl rfl)
theorem dX8_told_73 : decode cX8_told 73 = .ok (.iload_n 1, 1) := dk_27 (dk_at dksX8_told_3 21 rfl rfl)
theorem dX8_told_74 : decode cX8_told 74 = .ok (.iconst 4, 1) := dk_7 (dk_at dksX8_told_3 22 rfl rfl)
theorem dX8_told_75 : decode cX8_told 75 = .ok (.isub, 1) := dk_100 (dk_at dksX8_told_3 23 rfl rfl)
theorem dX8_told_76 : decode cX8_told 76 = .ok (.iconst 1, 1) := dk_4 (dk_at dksX8_told_4 0 rfl rfl)
theorem dX8_told_77 : decode cX8_told 77 = .ok (.iadd, 1) := dk_96 (dk_at dksX8_told_4 1 rfl rfl)
theorem dX8_told_78 : decode cX8_told 78 = .ok (.invokevirtual 164, 3) := dk_182 0 164 (dk_at dksX8_told_4 2 rfl rfl)
theorem dX8_told_81 : decode cX8_told 81 = .ok (.return_, 1) := dk_177 (dk_at dksX8_told_4 5 rfl rfl)
def dkwX8_taken_0 : List UInt8 := [42, 27, 28, 182, 0, 115, 62, 42, 182, 0, 33, 29, 172]
abbrev dktX8_taken_0 : List UInt8 := dkwX8_taken_0 ++ []
theorem dksX8_taken_0 : cX8_taken.data.toList.drop 0 = dktX8_taken_0 := by decide +kernel
theorem dX8_taken_0 : decode cX8_taken 0 = .ok (.aload_n 0, 1) := dk_42 (dk_at dksX8_taken_0 0 rfl rfl)
theorem dX8_taken_1 : decode cX8_taken 1 = .ok (.iload_n 1, 1) := dk_27 (dk_at dksX8_taken_0 1 rfl rfl)
theorem dX8_taken_2 : decode cX8_taken 2 = .ok (.iload_n 2, 1) := dk_28 (dk_at dksX8_taken_0 2 rfl rfl)
theorem dX8_taken_3 : decode cX8_taken 3 = .ok (.invokevirtual 115, 3) := dk_182 0 115 (dk_at dksX8_taken_0 3 rfl rfl)
theorem dX8_taken_6 : decode cX8_taken 6 = .ok (.istore_n 3, 1) := dk_62 (dk_at dksX8_taken_0 6 rfl rfl)
theorem dX8_taken_7 : decode cX8_taken 7 = .ok (.aload_n 0, 1) := dk_42 (dk_at dksX8_taken_0 7 rfl rfl)
theorem dX8_taken_8 : decode cX8_taken 8 = .ok (.invokevirtual 33, 3) := dk_182 0 33 (dk_at dksX8_taken_0 8 rfl rfl)
theorem dX8_taken_11 : decode cX8_taken 11 = .ok (.iload_n 3, 1) := dk_29 (dk_at dksX8_taken_0 11 rfl rfl)
theorem dX8_taken_12 : decode cX8_taken 12 = .ok (.ireturn, 1) := dk_172 (dk_at dksX8_taken_0 12 rfl rfl)
def dkwX8_looked_1 : List UInt8 := [27, 133, 28, 133, 184, 0, 111, 6, 182, 0, 100, 42, 180, 0, 108, 172]
abbrev dktX8_looked_1 : List UInt8 := dkwX8_looked_1 ++ []
def dkwX8_looked_0 : List UInt8 := [42, 42, 180, 0, 83, 5, 160, 0, 7, 4, 167, 0, 4, 3, 5, 182, 0, 100, 42, 42, 180, 0, 108, 133]
abbrev dktX8_looked_0 : List UInt8 := dkwX8_looked_0 ++ dktX8_looked_1
theorem dksX8_looked_0 : cX8_looked.data.toList.drop 0 = dktX8_looked_0 := by decide +kernel
theorem dksX8_looked_1 : cX8_looked.data.toList.drop 24 = dktX8_looked_1 := dk_seg dksX8_looked_0 24 rfl rfl
theorem dX8_looked_0 : decode cX8_looked 0 = .ok (.aload_n 0, 1) := dk_42 (dk_at dksX8_looked_0 0 rfl rfl)
theorem dX8_looked_1 : decode cX8_looked 1 = .ok (.aload_n 0, 1) := dk_42 (dk_at dksX8_looked_0 1 rfl rfl)
theorem dX8_looked_2 : decode cX8_looked 2 = .ok (.getfield 83, 3) := dk_180 0 83 (dk_at dksX8_looked_0 2 rfl rfl)
theorem dX8_looked_5 : decode cX8_looked 5 = .ok (.iconst 2, 1) := dk_5 (dk_at dksX8_looked_0 5 rfl rfl)
theorem dX8_looked_6 : decode cX8_looked 6 = .ok (.if_icmp .ne 7, 3) := dk_160 0 7 (dk_at dksX8_looked_0 6 rfl rfl)
theorem dX8_looked_9 : decode cX8_looked 9 = .ok (.iconst 1, 1) := dk_4 (dk_at dksX8_looked_0 9 rfl rfl)
theorem dX8_looked_10 : decode cX8_looked 10 = .ok (.goto 4, 3) := dk_167 0 4 (dk_at dksX8_looked_0 10 rfl rfl)
theorem dX8_looked_13 : decode cX8_looked 13 = .ok (.iconst 0, 1) := dk_3 (dk_at dksX8_looked_0 13 rfl rfl)
theorem dX8_looked_14 : decode cX8_looked 14 = .ok (.iconst 2, 1) := dk_5 (dk_at dksX8_looked_0 14 rfl rfl)
theorem dX8_looked_15 : decode cX8_looked 15 = .ok (.invokevirtual 100, 3) := dk_182 0 100 (dk_at dksX8_looked_0 15 rfl rfl)
theorem dX8_looked_18 : decode cX8_looked 18 = .ok (.aload_n 0, 1) := dk_42 (dk_at dksX8_looked_0 18 rfl rfl)
theorem dX8_looked_19 : decode cX8_looked 19 = .ok (.aload_n 0, 1) := dk_42 (dk_at dksX8_looked_0 19 rfl rfl)
theorem dX8_looked_20 : decode cX8_looked 20 = .ok (.getfield 108, 3) := dk_180 0 108 (dk_at dksX8_looked_0 20 rfl rfl)
theorem dX8_looked_23 : decode cX8_looked 23 = .ok (.i2l, 1) := dk_133 (dk_at dksX8_looked_0 23 rfl rfl)
theorem dX8_looked_24 : decode cX8_looked 24 = .ok (.iload_n 1, 1) := dk_27 (dk_at dksX8_looked_1 0 rfl rfl)
theorem dX8_looked_25 : decode cX8_looked 25 = .ok (.i2l, 1) := dk_133 (dk_at dksX8_looked_1 1 rfl rfl)
theorem dX8_looked_26 : decode cX8_looked 26 = .ok (.iload_n 2, 1) := dk_28 (dk_at dksX8_looked_1 2 rfl rfl)
theorem dX8_looked_27 : decode cX8_looked 27 = .ok (.i2l, 1) := dk_133 (dk_at dksX8_looked_1 3 rfl rfl)
theorem dX8_looked_28 : decode cX8_looked 28 = .ok (.invokestatic 111, 3) := dk_184 0 111 (dk_at dksX8_looked_1 4 rfl rfl)
theorem dX8_looked_31 : decode cX8_looked 31 = .ok (.iconst 3, 1) := dk_6 (dk_at dksX8_looked_1 7 rfl rfl)
theorem dX8_looked_32 : decode cX8_looked 32 = .ok (.invokevirtual 100, 3) := dk_182 0 100 (dk_at dksX8_looked_1 8 rfl rfl)
theorem dX8_looked_35 : decode cX8_looked 35 = .ok (.aload_n 0, 1) := dk_42 (dk_at dksX8_looked_1 11 rfl rfl)
theorem dX8_looked_36 : decode cX8_looked 36 = .ok (.getfield 108, 3) := dk_180 0 108 (dk_at dksX8_looked_1 12 rfl rfl)
theorem dX8_looked_39 : decode cX8_looked 39 = .ok (.ireturn, 1) := dk_172 (dk_at dksX8_looked_1 15 rfl rfl)
def dkwX8_guard_2 : List UInt8 := [177]
abbrev dktX8_guard_2 : List UInt8 := dkwX8_guard_2 ++ []
def dkwX8_guard_1 : List UInt8 := [3, 7, 182, 0, 100, 42, 180, 0, 18, 89, 180, 0, 137, 4, 27, 120, 128, 181, 0, 137, 42, 182, 0, 33]
abbrev dktX8_guard_1 : List UInt8 := dkwX8_guard_1 ++ dktX8_guard_2
def dkwX8_guard_0 : List UInt8 := [42, 182, 0, 124, 60, 42, 42, 180, 0, 18, 180, 0, 137, 27, 184, 0, 130, 154, 0, 7, 4, 167, 0, 4]
abbrev dktX8_guard_0 : List UInt8 := dkwX8_guard_0 ++ dktX8_guard_1
theorem dksX8_guard_0 : cX8_guard.data.toList.drop 0 = dktX8_guard_0 := by decide +kernel
theorem dksX8_guard_1 : cX8_guard.data.toList.drop 24 = dktX8_guard_1 := dk_seg dksX8_guard_0 24 rfl rfl
theorem dksX8_guard_2 : cX8_guard.data.toList.drop 48 = dktX8_guard_2 := dk_seg dksX8_guard_1 24 rfl rfl
theorem dX8_guard_0 : decode cX8_guard 0 = .ok (.aload_n 0, 1) := dk_42 (dk_at dksX8_guard_0 0 rfl rfl)
theorem dX8_guard_1 : decode cX8_guard 1 = .ok (.invokevirtual 124, 3) := dk_182 0 124 (dk_at dksX8_guard_0 1 rfl rfl)
theorem dX8_guard_4 : decode cX8_guard 4 = .ok (.istore_n 1, 1) := dk_60 (dk_at dksX8_guard_0 4 rfl rfl)
theorem dX8_guard_5 : decode cX8_guard 5 = .ok (.aload_n 0, 1) := dk_42 (dk_at dksX8_guard_0 5 rfl rfl)
theorem dX8_guard_6 : decode cX8_guard 6 = .ok (.aload_n 0, 1) := dk_42 (dk_at dksX8_guard_0 6 rfl rfl)
theorem dX8_guard_7 : decode cX8_guard 7 = .ok (.getfield 18, 3) := dk_180 0 18 (dk_at dksX8_guard_0 7 rfl rfl)
theorem dX8_guard_10 : decode cX8_guard 10 = .ok (.getfield 137, 3) := dk_180 0 137 (dk_at dksX8_guard_0 10 rfl rfl)
theorem dX8_guard_13 : decode cX8_guard 13 = .ok (.iload_n 1, 1) := dk_27 (dk_at dksX8_guard_0 13 rfl rfl)
theorem dX8_guard_14 : decode cX8_guard 14 = .ok (.invokestatic 130, 3) := dk_184 0 130 (dk_at dksX8_guard_0 14 rfl rfl)
theorem dX8_guard_17 : decode cX8_guard 17 = .ok (.ifCond .ne 7, 3) := dk_154 0 7 (dk_at dksX8_guard_0 17 rfl rfl)
theorem dX8_guard_20 : decode cX8_guard 20 = .ok (.iconst 1, 1) := dk_4 (dk_at dksX8_guard_0 20 rfl rfl)
theorem dX8_guard_21 : decode cX8_guard 21 = .ok (.goto 4, 3) := dk_167 0 4 (dk_at dksX8_guard_0 21 rfl rfl)
theorem dX8_guard_24 : decode cX8_guard 24 = .ok (.iconst 0, 1) := dk_3 (dk_at dksX8_guard_1 0 rfl rfl)
theorem dX8_guard_25 : decode cX8_guard 25 = .ok (.iconst 4, 1) := dk_7 (dk_at dksX8_guard_1 1 rfl rfl)
theorem dX8_guard_26 : decode cX8_guard 26 = .ok (.invokevirtual 100, 3) := dk_182 0 100 (dk_at dksX8_guard_1 2 rfl rfl)
theorem dX8_guard_29 : decode cX8_guard 29 = .ok (.aload_n 0, 1) := dk_42 (dk_at dksX8_guard_1 5 rfl rfl)
theorem dX8_guard_30 : decode cX8_guard 30 = .ok (.getfield 18, 3) := dk_180 0 18 (dk_at dksX8_guard_1 6 rfl rfl)
theorem dX8_guard_33 : decode cX8_guard 33 = .ok (.dup, 1) := dk_89 (dk_at dksX8_guard_1 9 rfl rfl)
theorem dX8_guard_34 : decode cX8_guard 34 = .ok (.getfield 137, 3) := dk_180 0 137 (dk_at dksX8_guard_1 10 rfl rfl)
theorem dX8_guard_37 : decode cX8_guard 37 = .ok (.iconst 1, 1) := dk_4 (dk_at dksX8_guard_1 13 rfl rfl)
theorem dX8_guard_38 : decode cX8_guard 38 = .ok (.iload_n 1, 1) := dk_27 (dk_at dksX8_guard_1 14 rfl rfl)
theorem dX8_guard_39 : decode cX8_guard 39 = .ok (.ishl, 1) := dk_120 (dk_at dksX8_guard_1 15 rfl rfl)
theorem dX8_guard_40 : decode cX8_guard 40 = .ok (.ior, 1) := dk_128 (dk_at dksX8_guard_1 16 rfl rfl)
theorem dX8_guard_41 : decode cX8_guard 41 = .ok (.putfield 137, 3) := dk_181 0 137 (dk_at dksX8_guard_1 17 rfl rfl)
theorem dX8_guard_44 : decode cX8_guard 44 = .ok (.aload_n 0, 1) := dk_42 (dk_at dksX8_guard_1 20 rfl rfl)
theorem dX8_guard_45 : decode cX8_guard 45 = .ok (.invokevirtual 33, 3) := dk_182 0 33 (dk_at dksX8_guard_1 21 rfl rfl)
theorem dX8_guard_48 : decode cX8_guard 48 = .ok (.return_, 1) := dk_177 (dk_at dksX8_guard_2 0 rfl rfl)
def dkwX8_aBlock_0 : List UInt8 := [42, 3, 16, 7, 182, 0, 115, 60, 42, 42, 180, 0, 26, 27, 184, 0, 119, 181, 0, 26, 27, 172]
abbrev dktX8_aBlock_0 : List UInt8 := dkwX8_aBlock_0 ++ []
theorem dksX8_aBlock_0 : cX8_aBlock.data.toList.drop 0 = dktX8_aBlock_0 := by decide +kernel
theorem dX8_aBlock_0 : decode cX8_aBlock 0 = .ok (.aload_n 0, 1) := dk_42 (dk_at dksX8_aBlock_0 0 rfl rfl)
theorem dX8_aBlock_1 : decode cX8_aBlock 1 = .ok (.iconst 0, 1) := dk_3 (dk_at dksX8_aBlock_0 1 rfl rfl)
theorem dX8_aBlock_2 : decode cX8_aBlock 2 = .ok (.bipush 7, 2) := dk_16 7 (dk_at dksX8_aBlock_0 2 rfl rfl)
theorem dX8_aBlock_4 : decode cX8_aBlock 4 = .ok (.invokevirtual 115, 3) := dk_182 0 115 (dk_at dksX8_aBlock_0 4 rfl rfl)
theorem dX8_aBlock_7 : decode cX8_aBlock 7 = .ok (.istore_n 1, 1) := dk_60 (dk_at dksX8_aBlock_0 7 rfl rfl)
theorem dX8_aBlock_8 : decode cX8_aBlock 8 = .ok (.aload_n 0, 1) := dk_42 (dk_at dksX8_aBlock_0 8 rfl rfl)
theorem dX8_aBlock_9 : decode cX8_aBlock 9 = .ok (.aload_n 0, 1) := dk_42 (dk_at dksX8_aBlock_0 9 rfl rfl)
theorem dX8_aBlock_10 : decode cX8_aBlock 10 = .ok (.getfield 26, 3) := dk_180 0 26 (dk_at dksX8_aBlock_0 10 rfl rfl)
theorem dX8_aBlock_13 : decode cX8_aBlock 13 = .ok (.iload_n 1, 1) := dk_27 (dk_at dksX8_aBlock_0 13 rfl rfl)
theorem dX8_aBlock_14 : decode cX8_aBlock 14 = .ok (.invokestatic 119, 3) := dk_184 0 119 (dk_at dksX8_aBlock_0 14 rfl rfl)
theorem dX8_aBlock_17 : decode cX8_aBlock 17 = .ok (.putfield 26, 3) := dk_181 0 26 (dk_at dksX8_aBlock_0 17 rfl rfl)
theorem dX8_aBlock_20 : decode cX8_aBlock 20 = .ok (.iload_n 1, 1) := dk_27 (dk_at dksX8_aBlock_0 20 rfl rfl)
theorem dX8_aBlock_21 : decode cX8_aBlock 21 = .ok (.ireturn, 1) := dk_172 (dk_at dksX8_aBlock_0 21 rfl rfl)
def dkwX8_lock_3 : List UInt8 := [177]
abbrev dktX8_lock_3 : List UInt8 := dkwX8_lock_3 ++ []
def dkwX8_lock_2 : List UInt8 := [180, 0, 22, 5, 42, 180, 0, 140, 104, 4, 96, 28, 145, 84, 42, 89, 180, 0, 140, 4, 96, 181, 0, 140]
abbrev dktX8_lock_2 : List UInt8 := dkwX8_lock_2 ++ dktX8_lock_3
def dkwX8_lock_1 : List UInt8 := [3, 6, 182, 0, 100, 42, 182, 0, 33, 42, 180, 0, 22, 5, 42, 180, 0, 140, 104, 27, 145, 84, 42]
abbrev dktX8_lock_1 : List UInt8 := dkwX8_lock_1 ++ dktX8_lock_2
def dkwX8_lock_0 : List UInt8 := [42, 182, 0, 124, 60, 42, 182, 0, 33, 42, 182, 0, 124, 61, 42, 28, 27, 159, 0, 7, 4, 167, 0, 4]
abbrev dktX8_lock_0 : List UInt8 := dkwX8_lock_0 ++ dktX8_lock_1
theorem dksX8_lock_0 : cX8_lock.data.toList.drop 0 = dktX8_lock_0 := by decide +kernel
theorem dksX8_lock_1 : cX8_lock.data.toList.drop 24 = dktX8_lock_1 := dk_seg dksX8_lock_0 24 rfl rfl
theorem dksX8_lock_2 : cX8_lock.data.toList.drop 47 = dktX8_lock_2 := dk_seg dksX8_lock_1 23 rfl rfl
theorem dksX8_lock_3 : cX8_lock.data.toList.drop 71 = dktX8_lock_3 := dk_seg dksX8_lock_2 24 rfl rfl
theorem dX8_lock_0 : decode cX8_lock 0 = .ok (.aload_n 0, 1) := dk_42 (dk_at dksX8_lock_0 0 rfl rfl)
theorem dX8_lock_1 : decode cX8_lock 1 = .ok (.invokevirtual 124, 3) := dk_182 0 124 (dk_at dksX8_lock_0 1 rfl rfl)
theorem dX8_lock_4 : decode cX8_lock 4 = .ok (.istore_n 1, 1) := dk_60 (dk_at dksX8_lock_0 4 rfl rfl)
theorem dX8_lock_5 : decode cX8_lock 5 = .ok (.aload_n 0, 1) := dk_42 (dk_at dksX8_lock_0 5 rfl rfl)
theorem dX8_lock_6 : decode cX8_lock 6 = .ok (.invokevirtual 33, 3) := dk_182 0 33 (dk_at dksX8_lock_0 6 rfl rfl)
theorem dX8_lock_9 : decode cX8_lock 9 = .ok (.aload_n 0, 1) := dk_42 (dk_at dksX8_lock_0 9 rfl rfl)
theorem dX8_lock_10 : decode cX8_lock 10 = .ok (.invokevirtual 124, 3) := dk_182 0 124 (dk_at dksX8_lock_0 10 rfl rfl)
theorem dX8_lock_13 : decode cX8_lock 13 = .ok (.istore_n 2, 1) := dk_61 (dk_at dksX8_lock_0 13 rfl rfl)
theorem dX8_lock_14 : decode cX8_lock 14 = .ok (.aload_n 0, 1) := dk_42 (dk_at dksX8_lock_0 14 rfl rfl)
theorem dX8_lock_15 : decode cX8_lock 15 = .ok (.iload_n 2, 1) := dk_28 (dk_at dksX8_lock_0 15 rfl rfl)
theorem dX8_lock_16 : decode cX8_lock 16 = .ok (.iload_n 1, 1) := dk_27 (dk_at dksX8_lock_0 16 rfl rfl)
theorem dX8_lock_17 : decode cX8_lock 17 = .ok (.if_icmp .eq 7, 3) := dk_159 0 7 (dk_at dksX8_lock_0 17 rfl rfl)
theorem dX8_lock_20 : decode cX8_lock 20 = .ok (.iconst 1, 1) := dk_4 (dk_at dksX8_lock_0 20 rfl rfl)
theorem dX8_lock_21 : decode cX8_lock 21 = .ok (.goto 4, 3) := dk_167 0 4 (dk_at dksX8_lock_0 21 rfl rfl)
theorem dX8_lock_24 : decode cX8_lock 24 = .ok (.iconst 0, 1) := dk_3 (dk_at dksX8_lock_1 0 rfl rfl)
theorem dX8_lock_25 : decode cX8_lock 25 = .ok (.iconst 3, 1) := dk_6 (dk_at dksX8_lock_1 1 rfl rfl)
theorem dX8_lock_26 : decode cX8_lock 26 = .ok (.invokevirtual 100, 3) := dk_182 0 100 (dk_at dksX8_lock_1 2 rfl rfl)
theorem dX8_lock_29 : decode cX8_lock 29 = .ok (.aload_n 0, 1) := dk_42 (dk_at dksX8_lock_1 5 rfl rfl)
theorem dX8_lock_30 : decode cX8_lock 30 = .ok (.invokevirtual 33, 3) := dk_182 0 33 (dk_at dksX8_lock_1 6 rfl rfl)
theorem dX8_lock_33 : decode cX8_lock 33 = .ok (.aload_n 0, 1) := dk_42 (dk_at dksX8_lock_1 9 rfl rfl)
theorem dX8_lock_34 : decode cX8_lock 34 = .ok (.getfield 22, 3) := dk_180 0 22 (dk_at dksX8_lock_1 10 rfl rfl)
theorem dX8_lock_37 : decode cX8_lock 37 = .ok (.iconst 2, 1) := dk_5 (dk_at dksX8_lock_1 13 rfl rfl)
theorem dX8_lock_38 : decode cX8_lock 38 = .ok (.aload_n 0, 1) := dk_42 (dk_at dksX8_lock_1 14 rfl rfl)
theorem dX8_lock_39 : decode cX8_lock 39 = .ok (.getfield 140, 3) := dk_180 0 140 (dk_at dksX8_lock_1 15 rfl rfl)
theorem dX8_lock_42 : decode cX8_lock 42 = .ok (.imul, 1) := dk_104 (dk_at dksX8_lock_1 18 rfl rfl)
theorem dX8_lock_43 : decode cX8_lock 43 = .ok (.iload_n 1, 1) := dk_27 (dk_at dksX8_lock_1 19 rfl rfl)
theorem dX8_lock_44 : decode cX8_lock 44 = .ok (.i2b, 1) := dk_145 (dk_at dksX8_lock_1 20 rfl rfl)
theorem dX8_lock_45 : decode cX8_lock 45 = .ok (.bastore, 1) := dk_84 (dk_at dksX8_lock_1 21 rfl rfl)
theorem dX8_lock_46 : decode cX8_lock 46 = .ok (.aload_n 0, 1) := dk_42 (dk_at dksX8_lock_1 22 rfl rfl)
theorem dX8_lock_47 : decode cX8_lock 47 = .ok (.getfield 22, 3) := dk_180 0 22 (dk_at dksX8_lock_2 0 rfl rfl)
theorem dX8_lock_50 : decode cX8_lock 50 = .ok (.iconst 2, 1) := dk_5 (dk_at dksX8_lock_2 3 rfl rfl)
theorem dX8_lock_51 : decode cX8_lock 51 = .ok (.aload_n 0, 1) := dk_42 (dk_at dksX8_lock_2 4 rfl rfl)
theorem dX8_lock_52 : decode cX8_lock 52 = .ok (.getfield 140, 3) := dk_180 0 140 (dk_at dksX8_lock_2 5 rfl rfl)
theorem dX8_lock_55 : decode cX8_lock 55 = .ok (.imul, 1) := dk_104 (dk_at dksX8_lock_2 8 rfl rfl)
theorem dX8_lock_56 : decode cX8_lock 56 = .ok (.iconst 1, 1) := dk_4 (dk_at dksX8_lock_2 9 rfl rfl)
theorem dX8_lock_57 : decode cX8_lock 57 = .ok (.iadd, 1) := dk_96 (dk_at dksX8_lock_2 10 rfl rfl)
theorem dX8_lock_58 : decode cX8_lock 58 = .ok (.iload_n 2, 1) := dk_28 (dk_at dksX8_lock_2 11 rfl rfl)
theorem dX8_lock_59 : decode cX8_lock 59 = .ok (.i2b, 1) := dk_145 (dk_at dksX8_lock_2 12 rfl rfl)
theorem dX8_lock_60 : decode cX8_lock 60 = .ok (.bastore, 1) := dk_84 (dk_at dksX8_lock_2 13 rfl rfl)
theorem dX8_lock_61 : decode cX8_lock 61 = .ok (.aload_n 0, 1) := dk_42 (dk_at dksX8_lock_2 14 rfl rfl)
theorem dX8_lock_62 : decode cX8_lock 62 = .ok (.dup, 1) := dk_89 (dk_at dksX8_lock_2 15 rfl rfl)
theorem dX8_lock_63 : decode cX8_lock 63 = .ok (.getfield 140, 3) := dk_180 0 140 (dk_at dksX8_lock_2 16 rfl rfl)
theorem dX8_lock_66 : decode cX8_lock 66 = .ok (.iconst 1, 1) := dk_4 (dk_at dksX8_lock_2 19 rfl rfl)
theorem dX8_lock_67 : decode cX8_lock 67 = .ok (.iadd, 1) := dk_96 (dk_at dksX8_lock_2 20 rfl rfl)
theorem dX8_lock_68 : decode cX8_lock 68 = .ok (.putfield 140, 3) := dk_181 0 140 (dk_at dksX8_lock_2 21 rfl rfl)
theorem dX8_lock_71 : decode cX8_lock 71 = .ok (.return_, 1) := dk_177 (dk_at dksX8_lock_3 0 rfl rfl)
def dkwX8_train_4 : List UInt8 := [180, 0, 143, 4, 96, 181, 0, 143, 177]
abbrev dktX8_train_4 : List UInt8 := dkwX8_train_4 ++ []
def dkwX8_train_3 : List UInt8 := [180, 0, 18, 180, 0, 146, 28, 6, 96, 42, 3, 16, 9, 182, 0, 152, 145, 84, 42, 180, 0, 18, 89]
abbrev dktX8_train_3 : List UInt8 := dkwX8_train_3 ++ dktX8_train_4
def dkwX8_train_2 : List UInt8 := [182, 0, 33, 42, 180, 0, 18, 180, 0, 146, 28, 5, 96, 42, 3, 16, 9, 182, 0, 152, 145, 84, 42]
abbrev dktX8_train_2 : List UInt8 := dkwX8_train_2 ++ dktX8_train_3
def dkwX8_train_1 : List UInt8 := [180, 0, 18, 180, 0, 146, 28, 4, 96, 42, 16, 11, 16, 12, 182, 0, 149, 16, 11, 100, 145, 84, 42]
abbrev dktX8_train_1 : List UInt8 := dkwX8_train_1 ++ dktX8_train_2
def dkwX8_train_0 : List UInt8 := [7, 42, 180, 0, 18, 180, 0, 143, 104, 61, 42, 180, 0, 18, 180, 0, 146, 28, 3, 96, 27, 145, 84, 42]
abbrev dktX8_train_0 : List UInt8 := dkwX8_train_0 ++ dktX8_train_1
theorem dksX8_train_0 : cX8_train.data.toList.drop 0 = dktX8_train_0 := by decide +kernel
theorem dksX8_train_1 : cX8_train.data.toList.drop 24 = dktX8_train_1 := dk_seg dksX8_train_0 24 rfl rfl
theorem dksX8_train_2 : cX8_train.data.toList.drop 47 = dktX8_train_2 := dk_seg dksX8_train_1 23 rfl rfl
theorem dksX8_train_3 : cX8_train.data.toList.drop 70 = dktX8_train_3 := dk_seg dksX8_train_2 23 rfl rfl
theorem dksX8_train_4 : cX8_train.data.toList.drop 93 = dktX8_train_4 := dk_seg dksX8_train_3 23 rfl rfl
theorem dX8_train_0 : decode cX8_train 0 = .ok (.iconst 4, 1) := dk_7 (dk_at dksX8_train_0 0 rfl rfl)
theorem dX8_train_1 : decode cX8_train 1 = .ok (.aload_n 0, 1) := dk_42 (dk_at dksX8_train_0 1 rfl rfl)
theorem dX8_train_2 : decode cX8_train 2 = .ok (.getfield 18, 3) := dk_180 0 18 (dk_at dksX8_train_0 2 rfl rfl)
theorem dX8_train_5 : decode cX8_train 5 = .ok (.getfield 143, 3) := dk_180 0 143 (dk_at dksX8_train_0 5 rfl rfl)
theorem dX8_train_8 : decode cX8_train 8 = .ok (.imul, 1) := dk_104 (dk_at dksX8_train_0 8 rfl rfl)
theorem dX8_train_9 : decode cX8_train 9 = .ok (.istore_n 2, 1) := dk_61 (dk_at dksX8_train_0 9 rfl rfl)
theorem dX8_train_10 : decode cX8_train 10 = .ok (.aload_n 0, 1) := dk_42 (dk_at dksX8_train_0 10 rfl rfl)
theorem dX8_train_11 : decode cX8_train 11 = .ok (.getfield 18, 3) := dk_180 0 18 (dk_at dksX8_train_0 11 rfl rfl)
theorem dX8_train_14 : decode cX8_train 14 = .ok (.getfield 146, 3) := dk_180 0 146 (dk_at dksX8_train_0 14 rfl rfl)
theorem dX8_train_17 : decode cX8_train 17 = .ok (.iload_n 2, 1) := dk_28 (dk_at dksX8_train_0 17 rfl rfl)
theorem dX8_train_18 : decode cX8_train 18 = .ok (.iconst 0, 1) := dk_3 (dk_at dksX8_train_0 18 rfl rfl)
theorem dX8_train_19 : decode cX8_train 19 = .ok (.iadd, 1) := dk_96 (dk_at dksX8_train_0 19 rfl rfl)
theorem dX8_train_20 : decode cX8_train 20 = .ok (.iload_n 1, 1) := dk_27 (dk_at dksX8_train_0 20 rfl rfl)
theorem dX8_train_21 : decode cX8_train 21 = .ok (.i2b, 1) := dk_145 (dk_at dksX8_train_0 21 rfl rfl)
theorem dX8_train_22 : decode cX8_train 22 = .ok (.bastore, 1) := dk_84 (dk_at dksX8_train_0 22 rfl rfl)
theorem dX8_train_23 : decode cX8_train 23 = .ok (.aload_n 0, 1) := dk_42 (dk_at dksX8_train_0 23 rfl rfl)
theorem dX8_train_24 : decode cX8_train 24 = .ok (.getfield 18, 3) := dk_180 0 18 (dk_at dksX8_train_1 0 rfl rfl)
theorem dX8_train_27 : decode cX8_train 27 = .ok (.getfield 146, 3) := dk_180 0 146 (dk_at dksX8_train_1 3 rfl rfl)
theorem dX8_train_30 : decode cX8_train 30 = .ok (.iload_n 2, 1) := dk_28 (dk_at dksX8_train_1 6 rfl rfl)
theorem dX8_train_31 : decode cX8_train 31 = .ok (.iconst 1, 1) := dk_4 (dk_at dksX8_train_1 7 rfl rfl)
theorem dX8_train_32 : decode cX8_train 32 = .ok (.iadd, 1) := dk_96 (dk_at dksX8_train_1 8 rfl rfl)
theorem dX8_train_33 : decode cX8_train 33 = .ok (.aload_n 0, 1) := dk_42 (dk_at dksX8_train_1 9 rfl rfl)
theorem dX8_train_34 : decode cX8_train 34 = .ok (.bipush 11, 2) := dk_16 11 (dk_at dksX8_train_1 10 rfl rfl)
theorem dX8_train_36 : decode cX8_train 36 = .ok (.bipush 12, 2) := dk_16 12 (dk_at dksX8_train_1 12 rfl rfl)
theorem dX8_train_38 : decode cX8_train 38 = .ok (.invokevirtual 149, 3) := dk_182 0 149 (dk_at dksX8_train_1 14 rfl rfl)
theorem dX8_train_41 : decode cX8_train 41 = .ok (.bipush 11, 2) := dk_16 11 (dk_at dksX8_train_1 17 rfl rfl)
theorem dX8_train_43 : decode cX8_train 43 = .ok (.isub, 1) := dk_100 (dk_at dksX8_train_1 19 rfl rfl)
theorem dX8_train_44 : decode cX8_train 44 = .ok (.i2b, 1) := dk_145 (dk_at dksX8_train_1 20 rfl rfl)
theorem dX8_train_45 : decode cX8_train 45 = .ok (.bastore, 1) := dk_84 (dk_at dksX8_train_1 21 rfl rfl)
theorem dX8_train_46 : decode cX8_train 46 = .ok (.aload_n 0, 1) := dk_42 (dk_at dksX8_train_1 22 rfl rfl)
theorem dX8_train_47 : decode cX8_train 47 = .ok (.invokevirtual 33, 3) := dk_182 0 33 (dk_at dksX8_train_2 0 rfl rfl)
theorem dX8_train_50 : decode cX8_train 50 = .ok (.aload_n 0, 1) := dk_42 (dk_at dksX8_train_2 3 rfl rfl)
theorem dX8_train_51 : decode cX8_train 51 = .ok (.getfield 18, 3) := dk_180 0 18 (dk_at dksX8_train_2 4 rfl rfl)
theorem dX8_train_54 : decode cX8_train 54 = .ok (.getfield 146, 3) := dk_180 0 146 (dk_at dksX8_train_2 7 rfl rfl)
theorem dX8_train_57 : decode cX8_train 57 = .ok (.iload_n 2, 1) := dk_28 (dk_at dksX8_train_2 10 rfl rfl)
theorem dX8_train_58 : decode cX8_train 58 = .ok (.iconst 2, 1) := dk_5 (dk_at dksX8_train_2 11 rfl rfl)
theorem dX8_train_59 : decode cX8_train 59 = .ok (.iadd, 1) := dk_96 (dk_at dksX8_train_2 12 rfl rfl)
theorem dX8_train_60 : decode cX8_train 60 = .ok (.aload_n 0, 1) := dk_42 (dk_at dksX8_train_2 13 rfl rfl)
theorem dX8_train_61 : decode cX8_train 61 = .ok (.iconst 0, 1) := dk_3 (dk_at dksX8_train_2 14 rfl rfl)
theorem dX8_train_62 : decode cX8_train 62 = .ok (.bipush 9, 2) := dk_16 9 (dk_at dksX8_train_2 15 rfl rfl)
theorem dX8_train_64 : decode cX8_train 64 = .ok (.invokevirtual 152, 3) := dk_182 0 152 (dk_at dksX8_train_2 17 rfl rfl)
theorem dX8_train_67 : decode cX8_train 67 = .ok (.i2b, 1) := dk_145 (dk_at dksX8_train_2 20 rfl rfl)
theorem dX8_train_68 : decode cX8_train 68 = .ok (.bastore, 1) := dk_84 (dk_at dksX8_train_2 21 rfl rfl)
theorem dX8_train_69 : decode cX8_train 69 = .ok (.aload_n 0, 1) := dk_42 (dk_at dksX8_train_2 22 rfl rfl)
theorem dX8_train_70 : decode cX8_train 70 = .ok (.getfield 18, 3) := dk_180 0 18 (dk_at dksX8_train_3 0 rfl rfl)
theorem dX8_train_73 : decode cX8_train 73 = .ok (.getfield 146, 3) := dk_180 0 146 (dk_at dksX8_train_3 3 rfl rfl)
theorem dX8_train_76 : decode cX8_train 76 = .ok (.iload_n 2, 1) := dk_28 (dk_at dksX8_train_3 6 rfl rfl)
theorem dX8_train_77 : decode cX8_train 77 = .ok (.iconst 3, 1) := dk_6 (dk_at dksX8_train_3 7 rfl rfl)
theorem dX8_train_78 : decode cX8_train 78 = .ok (.iadd, 1) := dk_96 (dk_at dksX8_train_3 8 rfl rfl)
theorem dX8_train_79 : decode cX8_train 79 = .ok (.aload_n 0, 1) := dk_42 (dk_at dksX8_train_3 9 rfl rfl)
theorem dX8_train_80 : decode cX8_train 80 = .ok (.iconst 0, 1) := dk_3 (dk_at dksX8_train_3 10 rfl rfl)
theorem dX8_train_81 : decode cX8_train 81 = .ok (.bipush 9, 2) := dk_16 9 (dk_at dksX8_train_3 11 rfl rfl)
theorem dX8_train_83 : decode cX8_train 83 = .ok (.invokevirtual 152, 3) := dk_182 0 152 (dk_at dksX8_train_3 13 rfl rfl)
theorem dX8_train_86 : decode cX8_train 86 = .ok (.i2b, 1) := dk_145 (dk_at dksX8_train_3 16 rfl rfl)
theorem dX8_train_87 : decode cX8_train 87 = .ok (.bastore, 1) := dk_84 (dk_at dksX8_train_3 17 rfl rfl)
theorem dX8_train_88 : decode cX8_train 88 = .ok (.aload_n 0, 1) := dk_42 (dk_at dksX8_train_3 18 rfl rfl)
theorem dX8_train_89 : decode cX8_train 89 = .ok (.getfield 18, 3) := dk_180 0 18 (dk_at dksX8_train_3 19 rfl rfl)
theorem dX8_train_92 : decode cX8_train 92 = .ok (.dup, 1) := dk_89 (dk_at dksX8_train_3 22 rfl rfl)
theorem dX8_train_93 : decode cX8_train 93 = .ok (.getfield 143, 3) := dk_180 0 143 (dk_at dksX8_train_4 0 rfl rfl)
theorem dX8_train_96 : decode cX8_train 96 = .ok (.iconst 1, 1) := dk_4 (dk_at dksX8_train_4 3 rfl rfl)
theorem dX8_train_97 : decode cX8_train 97 = .ok (.iadd, 1) := dk_96 (dk_at dksX8_train_4 4 rfl rfl)
theorem dX8_train_98 : decode cX8_train 98 = .ok (.putfield 143, 3) := dk_181 0 143 (dk_at dksX8_train_4 5 rfl rfl)
theorem dX8_train_101 : decode cX8_train 101 = .ok (.return_, 1) := dk_177 (dk_at dksX8_train_4 8 rfl rfl)
def dkwX8_omen_2 : List UInt8 := [145, 84, 42, 182, 0, 33, 177]
abbrev dktX8_omen_2 : List UInt8 := dkwX8_omen_2 ++ []
def dkwX8_omen_1 : List UInt8 := [182, 0, 100, 42, 89, 180, 0, 127, 4, 28, 120, 128, 181, 0, 127, 42, 180, 0, 18, 180, 0, 134, 28, 27]
abbrev dktX8_omen_1 : List UInt8 := dkwX8_omen_1 ++ dktX8_omen_2
def dkwX8_omen_0 : List UInt8 := [42, 182, 0, 124, 61, 42, 42, 180, 0, 127, 28, 184, 0, 130, 154, 0, 7, 4, 167, 0, 4, 3, 7]
abbrev dktX8_omen_0 : List UInt8 := dkwX8_omen_0 ++ dktX8_omen_1
theorem dksX8_omen_0 : cX8_omen.data.toList.drop 0 = dktX8_omen_0 := by decide +kernel
theorem dksX8_omen_1 : cX8_omen.data.toList.drop 23 = dktX8_omen_1 := dk_seg dksX8_omen_0 23 rfl rfl
theorem dksX8_omen_2 : cX8_omen.data.toList.drop 47 = dktX8_omen_2 := dk_seg dksX8_omen_1 24 rfl rfl
theorem dX8_omen_0 : decode cX8_omen 0 = .ok (.aload_n 0, 1) := dk_42 (dk_at dksX8_omen_0 0 rfl rfl)
theorem dX8_omen_1 : decode cX8_omen 1 = .ok (.invokevirtual 124, 3) := dk_182 0 124 (dk_at dksX8_omen_0 1 rfl rfl)
theorem dX8_omen_4 : decode cX8_omen 4 = .ok (.istore_n 2, 1) := dk_61 (dk_at dksX8_omen_0 4 rfl rfl)
theorem dX8_omen_5 : decode cX8_omen 5 = .ok (.aload_n 0, 1) := dk_42 (dk_at dksX8_omen_0 5 rfl rfl)
theorem dX8_omen_6 : decode cX8_omen 6 = .ok (.aload_n 0, 1) := dk_42 (dk_at dksX8_omen_0 6 rfl rfl)
theorem dX8_omen_7 : decode cX8_omen 7 = .ok (.getfield 127, 3) := dk_180 0 127 (dk_at dksX8_omen_0 7 rfl rfl)
theorem dX8_omen_10 : decode cX8_omen 10 = .ok (.iload_n 2, 1) := dk_28 (dk_at dksX8_omen_0 10 rfl rfl)
theorem dX8_omen_11 : decode cX8_omen 11 = .ok (.invokestatic 130, 3) := dk_184 0 130 (dk_at dksX8_omen_0 11 rfl rfl)
theorem dX8_omen_14 : decode cX8_omen 14 = .ok (.ifCond .ne 7, 3) := dk_154 0 7 (dk_at dksX8_omen_0 14 rfl rfl)
theorem dX8_omen_17 : decode cX8_omen 17 = .ok (.iconst 1, 1) := dk_4 (dk_at dksX8_omen_0 17 rfl rfl)
theorem dX8_omen_18 : decode cX8_omen 18 = .ok (.goto 4, 3) := dk_167 0 4 (dk_at dksX8_omen_0 18 rfl rfl)
theorem dX8_omen_21 : decode cX8_omen 21 = .ok (.iconst 0, 1) := dk_3 (dk_at dksX8_omen_0 21 rfl rfl)
theorem dX8_omen_22 : decode cX8_omen 22 = .ok (.iconst 4, 1) := dk_7 (dk_at dksX8_omen_0 22 rfl rfl)
theorem dX8_omen_23 : decode cX8_omen 23 = .ok (.invokevirtual 100, 3) := dk_182 0 100 (dk_at dksX8_omen_1 0 rfl rfl)
theorem dX8_omen_26 : decode cX8_omen 26 = .ok (.aload_n 0, 1) := dk_42 (dk_at dksX8_omen_1 3 rfl rfl)
theorem dX8_omen_27 : decode cX8_omen 27 = .ok (.dup, 1) := dk_89 (dk_at dksX8_omen_1 4 rfl rfl)
theorem dX8_omen_28 : decode cX8_omen 28 = .ok (.getfield 127, 3) := dk_180 0 127 (dk_at dksX8_omen_1 5 rfl rfl)
theorem dX8_omen_31 : decode cX8_omen 31 = .ok (.iconst 1, 1) := dk_4 (dk_at dksX8_omen_1 8 rfl rfl)
theorem dX8_omen_32 : decode cX8_omen 32 = .ok (.iload_n 2, 1) := dk_28 (dk_at dksX8_omen_1 9 rfl rfl)
theorem dX8_omen_33 : decode cX8_omen 33 = .ok (.ishl, 1) := dk_120 (dk_at dksX8_omen_1 10 rfl rfl)
theorem dX8_omen_34 : decode cX8_omen 34 = .ok (.ior, 1) := dk_128 (dk_at dksX8_omen_1 11 rfl rfl)
theorem dX8_omen_35 : decode cX8_omen 35 = .ok (.putfield 127, 3) := dk_181 0 127 (dk_at dksX8_omen_1 12 rfl rfl)
theorem dX8_omen_38 : decode cX8_omen 38 = .ok (.aload_n 0, 1) := dk_42 (dk_at dksX8_omen_1 15 rfl rfl)
theorem dX8_omen_39 : decode cX8_omen 39 = .ok (.getfield 18, 3) := dk_180 0 18 (dk_at dksX8_omen_1 16 rfl rfl)
theorem dX8_omen_42 : decode cX8_omen 42 = .ok (.getfield 134, 3) := dk_180 0 134 (dk_at dksX8_omen_1 19 rfl rfl)
theorem dX8_omen_45 : decode cX8_omen 45 = .ok (.iload_n 2, 1) := dk_28 (dk_at dksX8_omen_1 22 rfl rfl)
theorem dX8_omen_46 : decode cX8_omen 46 = .ok (.iload_n 1, 1) := dk_27 (dk_at dksX8_omen_1 23 rfl rfl)
theorem dX8_omen_47 : decode cX8_omen 47 = .ok (.i2b, 1) := dk_145 (dk_at dksX8_omen_2 0 rfl rfl)
theorem dX8_omen_48 : decode cX8_omen 48 = .ok (.bastore, 1) := dk_84 (dk_at dksX8_omen_2 1 rfl rfl)
theorem dX8_omen_49 : decode cX8_omen 49 = .ok (.aload_n 0, 1) := dk_42 (dk_at dksX8_omen_2 2 rfl rfl)
theorem dX8_omen_50 : decode cX8_omen 50 = .ok (.invokevirtual 33, 3) := dk_182 0 33 (dk_at dksX8_omen_2 3 rfl rfl)
theorem dX8_omen_53 : decode cX8_omen 53 = .ok (.return_, 1) := dk_177 (dk_at dksX8_omen_2 6 rfl rfl)
def dkwX8_isLocked_2 : List UInt8 := [153, 0, 7, 4, 167, 0, 4, 3, 128, 60, 132, 2, 1, 167, 255, 199, 27, 172]
abbrev dktX8_isLocked_2 : List UInt8 := dkwX8_isLocked_2 ++ []
def dkwX8_isLocked_1 : List UInt8 := [51, 184, 0, 130, 153, 0, 27, 42, 180, 0, 127, 42, 180, 0, 22, 5, 28, 104, 4, 96, 51, 184, 0, 130]
abbrev dktX8_isLocked_1 : List UInt8 := dkwX8_isLocked_1 ++ dktX8_isLocked_2
def dkwX8_isLocked_0 : List UInt8 := [3, 60, 3, 61, 28, 42, 180, 0, 140, 162, 0, 55, 27, 42, 180, 0, 127, 42, 180, 0, 22, 5, 28, 104]
abbrev dktX8_isLocked_0 : List UInt8 := dkwX8_isLocked_0 ++ dktX8_isLocked_1
theorem dksX8_isLocked_0 : cX8_isLocked.data.toList.drop 0 = dktX8_isLocked_0 := by decide +kernel
theorem dksX8_isLocked_1 : cX8_isLocked.data.toList.drop 24 = dktX8_isLocked_1 := dk_seg dksX8_isLocked_0 24 rfl rfl
theorem dksX8_isLocked_2 : cX8_isLocked.data.toList.drop 48 = dktX8_isLocked_2 := dk_seg dksX8_isLocked_1 24 rfl rfl
theorem dX8_isLocked_0 : decode cX8_isLocked 0 = .ok (.iconst 0, 1) := dk_3 (dk_at dksX8_isLocked_0 0 rfl rfl)
theorem dX8_isLocked_1 : decode cX8_isLocked 1 = .ok (.istore_n 1, 1) := dk_60 (dk_at dksX8_isLocked_0 1 rfl rfl)
theorem dX8_isLocked_2 : decode cX8_isLocked 2 = .ok (.iconst 0, 1) := dk_3 (dk_at dksX8_isLocked_0 2 rfl rfl)
theorem dX8_isLocked_3 : decode cX8_isLocked 3 = .ok (.istore_n 2, 1) := dk_61 (dk_at dksX8_isLocked_0 3 rfl rfl)
theorem dX8_isLocked_4 : decode cX8_isLocked 4 = .ok (.iload_n 2, 1) := dk_28 (dk_at dksX8_isLocked_0 4 rfl rfl)
theorem dX8_isLocked_5 : decode cX8_isLocked 5 = .ok (.aload_n 0, 1) := dk_42 (dk_at dksX8_isLocked_0 5 rfl rfl)
theorem dX8_isLocked_6 : decode cX8_isLocked 6 = .ok (.getfield 140, 3) := dk_180 0 140 (dk_at dksX8_isLocked_0 6 rfl rfl)
theorem dX8_isLocked_9 : decode cX8_isLocked 9 = .ok (.if_icmp .ge 55, 3) := dk_162 0 55 (dk_at dksX8_isLocked_0 9 rfl rfl)
theorem dX8_isLocked_12 : decode cX8_isLocked 12 = .ok (.iload_n 1, 1) := dk_27 (dk_at dksX8_isLocked_0 12 rfl rfl)
theorem dX8_isLocked_13 : decode cX8_isLocked 13 = .ok (.aload_n 0, 1) := dk_42 (dk_at dksX8_isLocked_0 13 rfl rfl)
theorem dX8_isLocked_14 : decode cX8_isLocked 14 = .ok (.getfield 127, 3) := dk_180 0 127 (dk_at dksX8_isLocked_0 14 rfl rfl)
theorem dX8_isLocked_17 : decode cX8_isLocked 17 = .ok (.aload_n 0, 1) := dk_42 (dk_at dksX8_isLocked_0 17 rfl rfl)
theorem dX8_isLocked_18 : decode cX8_isLocked 18 = .ok (.getfield 22, 3) := dk_180 0 22 (dk_at dksX8_isLocked_0 18 rfl rfl)
theorem dX8_isLocked_21 : decode cX8_isLocked 21 = .ok (.iconst 2, 1) := dk_5 (dk_at dksX8_isLocked_0 21 rfl rfl)
theorem dX8_isLocked_22 : decode cX8_isLocked 22 = .ok (.iload_n 2, 1) := dk_28 (dk_at dksX8_isLocked_0 22 rfl rfl)
theorem dX8_isLocked_23 : decode cX8_isLocked 23 = .ok (.imul, 1) := dk_104 (dk_at dksX8_isLocked_0 23 rfl rfl)
theorem dX8_isLocked_24 : decode cX8_isLocked 24 = .ok (.baload, 1) := dk_51 (dk_at dksX8_isLocked_1 0 rfl rfl)
theorem dX8_isLocked_25 : decode cX8_isLocked 25 = .ok (.invokestatic 130, 3) := dk_184 0 130 (dk_at dksX8_isLocked_1 1 rfl rfl)
theorem dX8_isLocked_28 : decode cX8_isLocked 28 = .ok (.ifCond .eq 27, 3) := dk_153 0 27 (dk_at dksX8_isLocked_1 4 rfl rfl)
theorem dX8_isLocked_31 : decode cX8_isLocked 31 = .ok (.aload_n 0, 1) := dk_42 (dk_at dksX8_isLocked_1 7 rfl rfl)
theorem dX8_isLocked_32 : decode cX8_isLocked 32 = .ok (.getfield 127, 3) := dk_180 0 127 (dk_at dksX8_isLocked_1 8 rfl rfl)
theorem dX8_isLocked_35 : decode cX8_isLocked 35 = .ok (.aload_n 0, 1) := dk_42 (dk_at dksX8_isLocked_1 11 rfl rfl)
theorem dX8_isLocked_36 : decode cX8_isLocked 36 = .ok (.getfield 22, 3) := dk_180 0 22 (dk_at dksX8_isLocked_1 12 rfl rfl)
theorem dX8_isLocked_39 : decode cX8_isLocked 39 = .ok (.iconst 2, 1) := dk_5 (dk_at dksX8_isLocked_1 15 rfl rfl)
theorem dX8_isLocked_40 : decode cX8_isLocked 40 = .ok (.iload_n 2, 1) := dk_28 (dk_at dksX8_isLocked_1 16 rfl rfl)
theorem dX8_isLocked_41 : decode cX8_isLocked 41 = .ok (.imul, 1) := dk_104 (dk_at dksX8_isLocked_1 17 rfl rfl)
theorem dX8_isLocked_42 : decode cX8_isLocked 42 = .ok (.iconst 1, 1) := dk_4 (dk_at dksX8_isLocked_1 18 rfl rfl)
theorem dX8_isLocked_43 : decode cX8_isLocked 43 = .ok (.iadd, 1) := dk_96 (dk_at dksX8_isLocked_1 19 rfl rfl)
theorem dX8_isLocked_44 : decode cX8_isLocked 44 = .ok (.baload, 1) := dk_51 (dk_at dksX8_isLocked_1 20 rfl rfl)
theorem dX8_isLocked_45 : decode cX8_isLocked 45 = .ok (.invokestatic 130, 3) := dk_184 0 130 (dk_at dksX8_isLocked_1 21 rfl rfl)
theorem dX8_isLocked_48 : decode cX8_isLocked 48 = .ok (.ifCond .eq 7, 3) := dk_153 0 7 (dk_at dksX8_isLocked_2 0 rfl rfl)
theorem dX8_isLocked_51 : decode cX8_isLocked 51 = .ok (.iconst 1, 1) := dk_4 (dk_at dksX8_isLocked_2 3 rfl rfl)
theorem dX8_isLocked_52 : decode cX8_isLocked 52 = .ok (.goto 4, 3) := dk_167 0 4 (dk_at dksX8_isLocked_2 4 rfl rfl)
theorem dX8_isLocked_55 : decode cX8_isLocked 55 = .ok (.iconst 0, 1) := dk_3 (dk_at dksX8_isLocked_2 7 rfl rfl)
theorem dX8_isLocked_56 : decode cX8_isLocked 56 = .ok (.ior, 1) := dk_128 (dk_at dksX8_isLocked_2 8 rfl rfl)
theorem dX8_isLocked_57 : decode cX8_isLocked 57 = .ok (.istore_n 1, 1) := dk_60 (dk_at dksX8_isLocked_2 9 rfl rfl)
theorem dX8_isLocked_58 : decode cX8_isLocked 58 = .ok (.iinc 2 1, 3) := dk_132 2 1 (dk_at dksX8_isLocked_2 10 rfl rfl)
theorem dX8_isLocked_61 : decode cX8_isLocked 61 = .ok (.goto (-57), 3) := dk_167 255 199 (dk_at dksX8_isLocked_2 13 rfl rfl)
theorem dX8_isLocked_64 : decode cX8_isLocked 64 = .ok (.iload_n 1, 1) := dk_27 (dk_at dksX8_isLocked_2 16 rfl rfl)
theorem dX8_isLocked_65 : decode cX8_isLocked 65 = .ok (.ireturn, 1) := dk_172 (dk_at dksX8_isLocked_2 17 rfl rfl)
theorem sw_2 (x : Int32) : x = 0 ∨ x = 1 ∨ x = 2 ∨ (x.toInt < 0 ∨ 2 < x.toInt) := by
  rcases sw_i x 2 (by decide) with h | ⟨j, hj, rfl⟩
  · refine Or.inr (Or.inr (Or.inr (?_))); omega
  · have : j = 0 ∨ j = 1 ∨ j = 2 := by omega
    rcases this with rfl | rfl | rfl <;> decide
theorem sw_4_12 (x : Int32) : x = 4 ∨ x = 5 ∨ x = 6 ∨ x = 7 ∨ x = 8 ∨ x = 9 ∨ x = 10 ∨ x = 11 ∨ x = 12 ∨ (x.toInt < 4 ∨ 12 < x.toInt) := by
  rcases sw_i x 12 (by decide) with h | ⟨j, hj, rfl⟩
  · refine Or.inr (Or.inr (Or.inr (Or.inr (Or.inr (Or.inr (Or.inr (Or.inr (Or.inr (?_))))))))); omega
  · have : j = 0 ∨ j = 1 ∨ j = 2 ∨ j = 3 ∨ j = 4 ∨ j = 5 ∨ j = 6 ∨ j = 7 ∨ j = 8 ∨ j = 9 ∨ j = 10 ∨ j = 11 ∨ j = 12 := by omega
    rcases this with rfl | rfl | rfl | rfl | rfl | rfl | rfl | rfl | rfl | rfl | rfl | rfl | rfl <;> decide
theorem sw_8_10 (x : Int32) : x = 8 ∨ x = 9 ∨ x = 10 ∨ (x.toInt < 8 ∨ 10 < x.toInt) := by
  rcases sw_i x 10 (by decide) with h | ⟨j, hj, rfl⟩
  · refine Or.inr (Or.inr (Or.inr (?_))); omega
  · have : j = 0 ∨ j = 1 ∨ j = 2 ∨ j = 3 ∨ j = 4 ∨ j = 5 ∨ j = 6 ∨ j = 7 ∨ j = 8 ∨ j = 9 ∨ j = 10 := by omega
    rcases this with rfl | rfl | rfl | rfl | rfl | rfl | rfl | rfl | rfl | rfl | rfl <;> decide
abbrev dW (ad : Nat → Nat) (r : Nat) (kb : Nat) (ko : Nat) (kt : Nat) (km : Nat) (ca : Nat → ClassId) (sizeR : Int32) (madeLocks : Int32) (hasBlocks : Int32) (omened : Int32) (highest : Int32) (atR : Int32) (fromR : Int32) (sortR : Int32) (valueR : Int32) (k_blocks : Int32) (k_guarded : Int32) (k_trains : Int32) (k_omen : Nat → Int32) (k_train : Nat → Int32) (madeLockA : Nat → Int32) (kept : Int32) (locks : Int32) (seenMany : Int32) (bumpMinute : Int32) (bumpBlock : Int32) (bumpTrains : Int32) (waited : Int32) (keptOut : Int32) (used : Int32) (taped : Int32) (fault : Int32) (costSum : Int64) (safeSum : Int64) (allWays : Int64) (torn : Int32) (tape : Nat → Int32) : va_W := [
  (r, .inr (8, [.int sizeR, .ref kb, .int madeLocks, .ref km, .int hasBlocks, .int omened, .int highest, .int atR, .int fromR, .int sortR, .int valueR, .ref (ad 0)])),
  (kb, .inr (5, [.int k_blocks, .ref ko, .int k_guarded, .int k_trains, .ref kt])),
  (ko, .inl (ca 2, 8, .inl k_omen)),
  (kt, .inl (ca 2, 16, .inl k_train)),
  (km, .inl (ca 2, 8, .inl madeLockA)),
  ((ad 0), .inr (0, [.ref (ad 1), .ref (ad 6), .ref (ad 9), .ref (ad 12), .int kept, .int locks, .ref (ad 19), .ref (ad 20), .int seenMany, .ref (ad 21), .ref (ad 22), .ref (ad 23), .ref (ad 24), .ref (ad 25), .int bumpMinute, .int bumpBlock, .int bumpTrains, .int waited, .int keptOut, .int used, .ref (ad 26), .int taped, .int fault, .long costSum, .long safeSum, .long allWays, .ref (ad 27), .ref (ad 28), .int torn])),
  ((ad 26), .inl (ca 2, 160, .inl tape))]
abbrev dK (ad : Nat → Nat) (ca : Nat → ClassId) (kept : Int32) (locks : Int32) (seenMany : Int32) (bumpMinute : Int32) (bumpBlock : Int32) (bumpTrains : Int32) (waited : Int32) (keptOut : Int32) (used : Int32) (taped : Int32) (fault : Int32) (costSum : Int64) (safeSum : Int64) (allWays : Int64) (torn : Int32) (tape : Nat → Int32) : va_W := [
  ((ad 0), .inr (0, [.ref (ad 1), .ref (ad 6), .ref (ad 9), .ref (ad 12), .int kept, .int locks, .ref (ad 19), .ref (ad 20), .int seenMany, .ref (ad 21), .ref (ad 22), .ref (ad 23), .ref (ad 24), .ref (ad 25), .int bumpMinute, .int bumpBlock, .int bumpTrains, .int waited, .int keptOut, .int used, .ref (ad 26), .int taped, .int fault, .long costSum, .long safeSum, .long allWays, .ref (ad 27), .ref (ad 28), .int torn])),
  ((ad 26), .inl (ca 2, 160, .inl tape))]
def R_isIn_s (sizeR : Int32) (atR : Int32) (tape : Nat → Int32) (x1 : Int32) (x2 : Int32) : Prop := (¬ (sizeR ≤ atR) → vp_in atR 160) ∧ (¬ (sizeR ≤ atR) → ¬ ((tape atR.toNatClampNeg) < x1) → vp_in atR 160)
def R_isIn_e (sizeR : Int32) (atR : Int32) (tape : Nat → Int32) (x1 : Int32) (x2 : Int32) : Int32 := (if sizeR ≤ atR then (0 : Int32) else (if (tape atR.toNatClampNeg) < x1 then (0 : Int32) else (if x2 < (tape atR.toNatClampNeg) then (0 : Int32) else (1 : Int32))))
theorem R_isIn_z (sizeR : Int32) (atR : Int32) (tape : Nat → Int32) (x1 : Int32) (x2 : Int32) : zb (R_isIn_e sizeR atR tape x1 x2) := (zb_I (fun _ => zb_0) (fun _ => (zb_I (fun _ => zb_0) (fun _ => (zb_I (fun _ => zb_0) (fun _ => zb_1))))))
def R_faith (x1 : Int32) (Q : Nat → Prop) : Prop :=
  ((x1 = 0 → (Q 9)) ∧ (x1 = 1 → (Q 10)) ∧ (x1 = 2 → (Q 11)) ∧ ((x1.toInt < 0 ∨ 2 < x1.toInt) → (Q 12)))
def R_name (x1 : Int32) (Q : Nat → Prop) : Prop :=
  ((x1 = 4 → (Q 0)) ∧ (x1 = 5 → (Q 1)) ∧ (x1 = 6 → (Q 2)) ∧ (x1 = 7 → (Q 3)) ∧ (x1 = 8 → (Q 4)) ∧ (x1 = 9 → (Q 5)) ∧ (x1 = 10 → (Q 6)) ∧ (x1 = 11 → (Q 7)) ∧ (x1 = 12 → (Q 8)) ∧ ((x1.toInt < 4 ∨ 12 < x1.toInt) → (R_faith x1 (fun r_2 => (Q r_2)))))
def R_is_L39 (fromR : Int32) (tape : Nat → Int32) (x2 : Nat) (k88 : Int32 → Prop) : Nat → Int32 → Int32 → Prop
  | 0, _, _ => False
  | n + 1, x3, x4 =>
  ((x3 = 0 → (k88 x3)) ∧ (¬ (x3 = 0) → (x2 < 13 ∧ (((nI (lenJ.getD x2 0)) ≤ x4 → (k88 x3)) ∧ (¬ ((nI (lenJ.getD x2 0)) ≤ x4) → (vp_in (fromR + x4) 160 ∧ (x2 < 13 ∧ (vp_in x4 (lenJ.getD x2 0) ∧ ((R_is_L39 fromR tape x2 k88 n) (if (tape (fromR + x4).toNatClampNeg) = (chJ x2 x4) then (1 : Int32) else (0 : Int32)) (x4 + (1 : Int32)))))))))))
def R_is (atR : Int32) (fromR : Int32) (sortR : Int32) (tape : Nat → Int32) (x1 : Int32) (Q : Int32 → Prop) : Prop :=
  (R_name x1 (fun r_1 => ((sortR = (1 : Int32) → r_1 < 13) ∧ (∃ n_13 : Nat, R_is_L39 fromR tape r_1 (fun x3_14 => (zb x3_14 ∧ (Q x3_14))) n_13 (if sortR = (1 : Int32) then (if (atR - fromR) = (nI (lenJ.getD r_1 0)) then (1 : Int32) else (0 : Int32)) else (0 : Int32)) (0 : Int32)))))
def R_need (fromR : Int32) (x1 : Int32) (x2 : Int32) (Q : Prop) (X : Int32 → Int32 → Prop) : Prop := (x1 = 0 → X x2 fromR) ∧ (¬ x1 = 0 → Q)
def R_which_L2 (atR : Int32) (fromR : Int32) (sortR : Int32) (tape : Nat → Int32) (x2 : Int32) (k21 : Int32 → Prop) (X : Int32 → Int32 → Prop) : Nat → Int32 → Prop
  | 0, _ => False
  | n + 1, x3 =>
  ((x2 < x3 → (k21 x3)) ∧ (¬ (x2 < x3) → (R_is atR fromR sortR tape x3 (fun r_2 => ((r_2 = 0 → ((R_which_L2 atR fromR sortR tape x2 k21 X n) (x3 + (1 : Int32)))) ∧ (¬ (r_2 = 0) → (k21 x3)))))))
def R_which_J21 (fromR : Int32) (x2 : Int32) (x3 : Int32) (Q : Int32 → Prop) (X : Int32 → Int32 → Prop) : Prop :=
  (R_need fromR (if x2 < x3 then (0 : Int32) else (1 : Int32)) (2 : Int32) ((Q x3)) X)
def R_which (atR : Int32) (fromR : Int32) (sortR : Int32) (tape : Nat → Int32) (x1 : Int32) (x2 : Int32) (Q : Int32 → Prop) (X : Int32 → Int32 → Prop) : Prop :=
  (∃ n_4 : Nat, R_which_L2 atR fromR sortR tape x2 (fun x3_5 => (R_which_J21 fromR x2 x3_5 Q X)) X n_4 x1)
def R_next_L112 (sizeR : Int32) (fromR : Int32) (tape : Nat → Int32) (k183 : Int32 → Int32 → Prop) (X : Int32 → Int32 → Prop) : Nat → Int32 → Int32 → Prop
  | 0, _, _ => False
  | n + 1, atR, valueR =>
  (R_isIn_s sizeR atR tape (48 : Int32) (57 : Int32) ∧ (((R_isIn_e sizeR atR tape (48 : Int32) (57 : Int32)) = 0 → (k183 atR valueR)) ∧ (¬ ((R_isIn_e sizeR atR tape (48 : Int32) (57 : Int32)) = 0) → ((¬ ((2 : Int32) ≤ (atR - fromR)) → vp_in atR 160) ∧ ((R_next_L112 sizeR fromR tape k183 X n) (atR + (1 : Int32)) (if (2 : Int32) ≤ (atR - fromR) then valueR else ((((10 : Int32) * valueR) + (tape atR.toNatClampNeg)) - (48 : Int32))))))))
def R_next_L67 (sizeR : Int32) (tape : Nat → Int32) (k237 : Int32 → Prop) (X : Int32 → Int32 → Prop) : Nat → Int32 → Prop
  | 0, _ => False
  | n + 1, atR =>
  (R_isIn_s sizeR atR tape (97 : Int32) (122 : Int32) ∧ (((R_isIn_e sizeR atR tape (97 : Int32) (122 : Int32)) = 0 → (k237 atR)) ∧ (¬ ((R_isIn_e sizeR atR tape (97 : Int32) (122 : Int32)) = 0) → ((R_next_L67 sizeR tape k237 X n) (atR + (1 : Int32))))))
def R_next_L0 (sizeR : Int32) (tape : Nat → Int32) (k24 : Int32 → Prop) (X : Int32 → Int32 → Prop) : Nat → Int32 → Prop
  | 0, _ => False
  | n + 1, atR =>
  (R_isIn_s sizeR atR tape (32 : Int32) (32 : Int32) ∧ (((R_isIn_e sizeR atR tape (32 : Int32) (32 : Int32)) = 0 → (k24 atR)) ∧ (¬ ((R_isIn_e sizeR atR tape (32 : Int32) (32 : Int32)) = 0) → ((R_next_L0 sizeR tape k24 X n) (atR + (1 : Int32))))))
def R_next (sizeR : Int32) (atR : Int32) (fromR : Int32) (sortR : Int32) (valueR : Int32) (tape : Nat → Int32) (Q : Int32 → Int32 → Int32 → Int32 → Prop) (X : Int32 → Int32 → Prop) : Prop :=
  (R_isIn_s sizeR atR tape (32 : Int32) (32 : Int32) ∧ (((R_isIn_e sizeR atR tape (32 : Int32) (32 : Int32)) = 0 → ((atR = sizeR → (Q atR atR (0 : Int32) valueR)) ∧ (¬ (atR = sizeR) → (R_isIn_s sizeR atR tape (97 : Int32) (122 : Int32) ∧ (((R_isIn_e sizeR atR tape (97 : Int32) (122 : Int32)) = 0 → (R_isIn_s sizeR atR tape (48 : Int32) (57 : Int32) ∧ (((R_isIn_e sizeR atR tape (48 : Int32) (57 : Int32)) = 0 → (R_isIn_s sizeR atR tape (59 : Int32) (59 : Int32) ∧ (R_need atR (R_isIn_e sizeR atR tape (59 : Int32) (59 : Int32)) (1 : Int32) ((Q (atR + (1 : Int32)) atR (3 : Int32) valueR)) X))) ∧ (¬ ((R_isIn_e sizeR atR tape (48 : Int32) (57 : Int32)) = 0) → (∃ n_20 : Nat, R_next_L112 sizeR atR tape (fun atR_21 valueR_22 => (R_need atR (if (3 : Int32) ≤ (atR_21 - atR) then (0 : Int32) else (1 : Int32)) (1 : Int32) ((Q atR_21 atR (2 : Int32) valueR_22)) X)) X n_20 atR (0 : Int32)))))) ∧ (¬ ((R_isIn_e sizeR atR tape (97 : Int32) (122 : Int32)) = 0) → (∃ n_29 : Nat, R_next_L67 sizeR tape (fun atR_30 => (Q atR_30 atR (1 : Int32) valueR)) X n_29 atR))))))) ∧ (¬ ((R_isIn_e sizeR atR tape (32 : Int32) (32 : Int32)) = 0) → (∃ n_34 : Nat, R_next_L0 sizeR tape (fun atR_35 => ((atR_35 = sizeR → (Q atR_35 atR_35 (0 : Int32) valueR)) ∧ (¬ (atR_35 = sizeR) → (R_isIn_s sizeR atR_35 tape (97 : Int32) (122 : Int32) ∧ (((R_isIn_e sizeR atR_35 tape (97 : Int32) (122 : Int32)) = 0 → (R_isIn_s sizeR atR_35 tape (48 : Int32) (57 : Int32) ∧ (((R_isIn_e sizeR atR_35 tape (48 : Int32) (57 : Int32)) = 0 → (R_isIn_s sizeR atR_35 tape (59 : Int32) (59 : Int32) ∧ (R_need atR_35 (R_isIn_e sizeR atR_35 tape (59 : Int32) (59 : Int32)) (1 : Int32) ((Q (atR_35 + (1 : Int32)) atR_35 (3 : Int32) valueR)) X))) ∧ (¬ ((R_isIn_e sizeR atR_35 tape (48 : Int32) (57 : Int32)) = 0) → (∃ n_46 : Nat, R_next_L112 sizeR atR_35 tape (fun atR_47 valueR_48 => (R_need atR_35 (if (3 : Int32) ≤ (atR_47 - atR_35) then (0 : Int32) else (1 : Int32)) (1 : Int32) ((Q atR_47 atR_35 (2 : Int32) valueR_48)) X)) X n_46 atR_35 (0 : Int32)))))) ∧ (¬ ((R_isIn_e sizeR atR_35 tape (97 : Int32) (122 : Int32)) = 0) → (∃ n_52 : Nat, R_next_L67 sizeR tape (fun atR_53 => (Q atR_53 atR_35 (1 : Int32) valueR)) X n_52 atR_35))))))) X n_34 (atR + (1 : Int32))))))
def R_looked (fromR : Int32) (sortR : Int32) (valueR : Int32) (x1 : Int32) (x2 : Int32) (Q : Int32 → Prop) (X : Int32 → Int32 → Prop) : Prop :=
  (R_need fromR (if sortR = (2 : Int32) then (1 : Int32) else (0 : Int32)) (2 : Int32) ((R_need fromR (C_in_e ((valueR).toInt64) ((x1).toInt64) ((x2).toInt64)) (3 : Int32) ((Q valueR)) X)) X)
def R_taken (sizeR : Int32) (atR : Int32) (fromR : Int32) (sortR : Int32) (valueR : Int32) (tape : Nat → Int32) (x1 : Int32) (x2 : Int32) (Q : Int32 → Int32 → Int32 → Int32 → Int32 → Prop) (X : Int32 → Int32 → Prop) : Prop :=
  (R_looked fromR sortR valueR x1 x2 (fun r_1 => (R_next sizeR atR fromR sortR valueR tape (fun atR_3 fromR_4 sortR_5 valueR_6 => (Q r_1 atR_3 fromR_4 sortR_5 valueR_6)) X)) X)
def R_aBlock (highest : Int32) (fromR : Int32) (sortR : Int32) (valueR : Int32) (Q : Int32 → Int32 → Prop) (X : Int32 → Int32 → Prop) : Prop :=
  (R_looked fromR sortR valueR (0 : Int32) (7 : Int32) (fun r_1 => (Q r_1 (if highest < r_1 then r_1 else highest))) X)
def R_omen (sizeR : Int32) (omened : Int32) (highest : Int32) (atR : Int32) (fromR : Int32) (sortR : Int32) (valueR : Int32) (k_omen : Nat → Int32) (tape : Nat → Int32) (x1 : Int32) (Q : Int32 → Int32 → Int32 → Int32 → Int32 → Int32 → (Nat → Int32) → Prop) (X : Int32 → Int32 → Prop) : Prop :=
  (R_aBlock highest fromR sortR valueR (fun r_1 highest_2 => (R_need fromR (if (C_has_e omened r_1) = 0 then (1 : Int32) else (0 : Int32)) (4 : Int32) ((vp_in r_1 8 ∧ (R_next sizeR atR fromR sortR valueR tape (fun atR_8 fromR_9 sortR_10 valueR_11 => (Q (omened ||| ((1 : Int32) <<< (r_1 &&& 31))) highest_2 atR_8 fromR_9 sortR_10 valueR_11 (upd k_omen r_1.toNatClampNeg (vp_nar .byte ((x1).toInt8.toInt32))))) X))) X)) X)
def R_guard (sizeR : Int32) (highest : Int32) (atR : Int32) (fromR : Int32) (sortR : Int32) (valueR : Int32) (k_guarded : Int32) (tape : Nat → Int32) (Q : Int32 → Int32 → Int32 → Int32 → Int32 → Int32 → Prop) (X : Int32 → Int32 → Prop) : Prop :=
  (R_aBlock highest fromR sortR valueR (fun r_1 highest_2 => (R_need fromR (if (C_has_e k_guarded r_1) = 0 then (1 : Int32) else (0 : Int32)) (4 : Int32) ((R_next sizeR atR fromR sortR valueR tape (fun atR_7 fromR_8 sortR_9 valueR_10 => (Q highest_2 atR_7 fromR_8 sortR_9 valueR_10 (k_guarded ||| ((1 : Int32) <<< (r_1 &&& 31))))) X)) X)) X)
def R_lock (sizeR : Int32) (madeLocks : Int32) (highest : Int32) (atR : Int32) (fromR : Int32) (sortR : Int32) (valueR : Int32) (madeLockA : Nat → Int32) (tape : Nat → Int32) (Q : Int32 → Int32 → Int32 → Int32 → Int32 → Int32 → (Nat → Int32) → Prop) (X : Int32 → Int32 → Prop) : Prop :=
  (R_aBlock highest fromR sortR valueR (fun r_1 highest_2 => (R_next sizeR atR fromR sortR valueR tape (fun atR_4 fromR_5 sortR_6 valueR_7 => (R_aBlock highest_2 fromR_5 sortR_6 valueR_7 (fun r_8 highest_9 => (R_need fromR_5 (if r_8 = r_1 then (0 : Int32) else (1 : Int32)) (3 : Int32) ((R_next sizeR atR_4 fromR_5 sortR_6 valueR_7 tape (fun atR_13 fromR_14 sortR_15 valueR_16 => (vp_in ((2 : Int32) * madeLocks) 8 ∧ (vp_in (((2 : Int32) * madeLocks) + (1 : Int32)) 8 ∧ (Q (madeLocks + (1 : Int32)) highest_9 atR_13 fromR_14 sortR_15 valueR_16 (upd (upd madeLockA ((2 : Int32) * madeLocks).toNatClampNeg (vp_nar .byte ((r_1).toInt8.toInt32))) (((2 : Int32) * madeLocks) + (1 : Int32)).toNatClampNeg (vp_nar .byte ((r_8).toInt8.toInt32))))))) X)) X)) X)) X)) X)
def R_train (sizeR : Int32) (atR : Int32) (fromR : Int32) (sortR : Int32) (valueR : Int32) (k_trains : Int32) (k_train : Nat → Int32) (tape : Nat → Int32) (x1 : Int32) (Q : Int32 → Int32 → Int32 → Int32 → Int32 → (Nat → Int32) → Prop) (X : Int32 → Int32 → Prop) : Prop :=
  (vp_in (((4 : Int32) * k_trains) + (0 : Int32)) 16 ∧ (R_which atR fromR sortR tape (11 : Int32) (12 : Int32) (fun r_2 => (vp_in (((4 : Int32) * k_trains) + (1 : Int32)) 16 ∧ (R_next sizeR atR fromR sortR valueR tape (fun atR_5 fromR_6 sortR_7 valueR_8 => (R_taken sizeR atR_5 fromR_6 sortR_7 valueR_8 tape (0 : Int32) (9 : Int32) (fun r_9 atR_10 fromR_11 sortR_12 valueR_13 => (vp_in (((4 : Int32) * k_trains) + (2 : Int32)) 16 ∧ (R_taken sizeR atR_10 fromR_11 sortR_12 valueR_13 tape (0 : Int32) (9 : Int32) (fun r_15 atR_16 fromR_17 sortR_18 valueR_19 => (vp_in (((4 : Int32) * k_trains) + (3 : Int32)) 16 ∧ (Q atR_16 fromR_17 sortR_18 valueR_19 (k_trains + (1 : Int32)) (upd (upd (upd (upd k_train (((4 : Int32) * k_trains) + (0 : Int32)).toNatClampNeg (vp_nar .byte ((x1).toInt8.toInt32))) (((4 : Int32) * k_trains) + (1 : Int32)).toNatClampNeg (vp_nar .byte (((r_2 - (11 : Int32))).toInt8.toInt32))) (((4 : Int32) * k_trains) + (2 : Int32)).toNatClampNeg (vp_nar .byte ((r_9).toInt8.toInt32))) (((4 : Int32) * k_trains) + (3 : Int32)).toNatClampNeg (vp_nar .byte ((r_15).toInt8.toInt32)))))) X))) X)) X))) X))
def R_told (sizeR : Int32) (madeLocks : Int32) (omened : Int32) (highest : Int32) (atR : Int32) (fromR : Int32) (sortR : Int32) (valueR : Int32) (k_blocks : Int32) (k_guarded : Int32) (k_trains : Int32) (k_omen : Nat → Int32) (k_train : Nat → Int32) (madeLockA : Nat → Int32) (tape : Nat → Int32) (x1 : Int32) (Q : Int32 → Int32 → Int32 → Int32 → Int32 → Int32 → Int32 → Int32 → Int32 → Int32 → (Nat → Int32) → (Nat → Int32) → (Nat → Int32) → Prop) (X : Int32 → Int32 → Prop) : Prop :=
  ((x1 = 8 → (R_taken sizeR atR fromR sortR valueR tape (2 : Int32) (8 : Int32) (fun r_2 atR_3 fromR_4 sortR_5 valueR_6 => (Q madeLocks omened highest atR_3 fromR_4 sortR_5 valueR_6 r_2 k_guarded k_trains k_omen k_train madeLockA)) X)) ∧ (x1 = 9 → (R_guard sizeR highest atR fromR sortR valueR k_guarded tape (fun highest_8 atR_9 fromR_10 sortR_11 valueR_12 k_guarded_13 => (Q madeLocks omened highest_8 atR_9 fromR_10 sortR_11 valueR_12 k_blocks k_guarded_13 k_trains k_omen k_train madeLockA)) X)) ∧ (x1 = 10 → (R_lock sizeR madeLocks highest atR fromR sortR valueR madeLockA tape (fun madeLocks_15 highest_16 atR_17 fromR_18 sortR_19 valueR_20 madeLockA_21 => (Q madeLocks_15 omened highest_16 atR_17 fromR_18 sortR_19 valueR_20 k_blocks k_guarded k_trains k_omen k_train madeLockA_21)) X)) ∧ ((x1.toInt < 8 ∨ 10 < x1.toInt) → (((4 : Int32) ≤ x1 → (R_omen sizeR omened highest atR fromR sortR valueR k_omen tape ((x1 - (4 : Int32)) + (1 : Int32)) (fun omened_24 highest_25 atR_26 fromR_27 sortR_28 valueR_29 k_omen_30 => (Q madeLocks omened_24 highest_25 atR_26 fromR_27 sortR_28 valueR_29 k_blocks k_guarded k_trains k_omen_30 k_train madeLockA)) X)) ∧ (¬ ((4 : Int32) ≤ x1) → (R_train sizeR atR fromR sortR valueR k_trains k_train tape x1 (fun atR_32 fromR_33 sortR_34 valueR_35 k_trains_36 k_train_37 => (Q madeLocks omened highest atR_32 fromR_33 sortR_34 valueR_35 k_blocks k_guarded k_trains_36 k_omen k_train_37 madeLockA)) X)))))
def R_line (sizeR : Int32) (madeLocks : Int32) (hasBlocks : Int32) (omened : Int32) (highest : Int32) (atR : Int32) (fromR : Int32) (sortR : Int32) (valueR : Int32) (k_blocks : Int32) (k_guarded : Int32) (k_trains : Int32) (k_omen : Nat → Int32) (k_train : Nat → Int32) (madeLockA : Nat → Int32) (tape : Nat → Int32) (Q : Int32 → Int32 → Int32 → Int32 → Int32 → Int32 → Int32 → Int32 → Int32 → Int32 → Int32 → (Nat → Int32) → (Nat → Int32) → (Nat → Int32) → Prop) (X : Int32 → Int32 → Prop) : Prop :=
  (R_which atR fromR sortR tape (0 : Int32) (10 : Int32) (fun r_1 => (R_need fromR (if (4 : Int32) ≤ r_1 then (if r_1 = (10 : Int32) then (if (4 : Int32) ≤ madeLocks then (0 : Int32) else (1 : Int32)) else (1 : Int32)) else (if (4 : Int32) ≤ k_trains then (0 : Int32) else (if r_1 = (10 : Int32) then (if (4 : Int32) ≤ madeLocks then (0 : Int32) else (1 : Int32)) else (1 : Int32)))) (5 : Int32) ((R_need fromR (if r_1 = (8 : Int32) then (if hasBlocks = 0 then (1 : Int32) else (0 : Int32)) else (1 : Int32)) (4 : Int32) ((zb (hasBlocks ||| (if r_1 = (8 : Int32) then (1 : Int32) else (0 : Int32))) ∧ (R_next sizeR atR fromR sortR valueR tape (fun atR_15 fromR_16 sortR_17 valueR_18 => (R_told sizeR madeLocks omened highest atR_15 fromR_16 sortR_17 valueR_18 k_blocks k_guarded k_trains k_omen k_train madeLockA tape r_1 (fun madeLocks_20 omened_21 highest_22 atR_23 fromR_24 sortR_25 valueR_26 k_blocks_27 k_guarded_28 k_trains_29 k_omen_30 k_train_31 madeLockA_32 => (R_need fromR_24 (if sortR_25 = (3 : Int32) then (1 : Int32) else (0 : Int32)) (2 : Int32) ((R_next sizeR atR_23 fromR_24 sortR_25 valueR_26 tape (fun atR_36 fromR_37 sortR_38 valueR_39 => (Q madeLocks_20 (hasBlocks ||| (if r_1 = (8 : Int32) then (1 : Int32) else (0 : Int32))) omened_21 highest_22 atR_36 fromR_37 sortR_38 valueR_39 k_blocks_27 k_guarded_28 k_trains_29 k_omen_30 k_train_31 madeLockA_32)) X)) X)) X)) X))) X)) X)) X)
def R_isLocked_L4 (madeLocks : Int32) (omened : Int32) (madeLockA : Nat → Int32) (k64 : Int32 → Prop) : Nat → Int32 → Int32 → Prop
  | 0, _, _ => False
  | n + 1, x1, x2 =>
  ((madeLocks ≤ x2 → (k64 x1)) ∧ (¬ (madeLocks ≤ x2) → (vp_in ((2 : Int32) * x2) 8 ∧ ((¬ ((C_has_e omened (madeLockA ((2 : Int32) * x2).toNatClampNeg)) = 0) → vp_in (((2 : Int32) * x2) + (1 : Int32)) 8) ∧ ((R_isLocked_L4 madeLocks omened madeLockA k64 n) (x1 ||| (if (C_has_e omened (madeLockA ((2 : Int32) * x2).toNatClampNeg)) = 0 then (0 : Int32) else (if (C_has_e omened (madeLockA (((2 : Int32) * x2) + (1 : Int32)).toNatClampNeg)) = 0 then (0 : Int32) else (1 : Int32)))) (x2 + (1 : Int32)))))))
def R_isLocked (madeLocks : Int32) (omened : Int32) (madeLockA : Nat → Int32) (Q : Int32 → Prop) : Prop :=
  (∃ n_9 : Nat, R_isLocked_L4 madeLocks omened madeLockA (fun x1_10 => (zb x1_10 ∧ (Q x1_10))) n_9 (0 : Int32) (0 : Int32))
def R_lines_L2 (sizeR : Int32) (tape : Nat → Int32) (k19 : Int32 → Int32 → Int32 → Int32 → Int32 → Int32 → Int32 → Int32 → Int32 → Int32 → Int32 → (Nat → Int32) → (Nat → Int32) → (Nat → Int32) → Int32 → Prop) (X : Int32 → Int32 → Prop) : Nat → Int32 → Int32 → Int32 → Int32 → Int32 → Int32 → Int32 → Int32 → Int32 → Int32 → Int32 → (Nat → Int32) → (Nat → Int32) → (Nat → Int32) → Int32 → Prop
  | 0, _, _, _, _, _, _, _, _, _, _, _, _, _, _, _ => False
  | n + 1, madeLocks, hasBlocks, omened, highest, atR, fromR, sortR, valueR, k_blocks, k_guarded, k_trains, k_omen, k_train, madeLockA, x1 =>
  ((sortR = 0 → (k19 madeLocks hasBlocks omened highest atR fromR sortR valueR k_blocks k_guarded k_trains k_omen k_train madeLockA x1)) ∧ (¬ (sortR = 0) → (R_line sizeR madeLocks hasBlocks omened highest atR fromR sortR valueR k_blocks k_guarded k_trains k_omen k_train madeLockA tape (fun madeLocks_3 hasBlocks_4 omened_5 highest_6 atR_7 fromR_8 sortR_9 valueR_10 k_blocks_11 k_guarded_12 k_trains_13 k_omen_14 k_train_15 madeLockA_16 => ((R_lines_L2 sizeR tape k19 X n) madeLocks_3 hasBlocks_4 omened_5 highest_6 atR_7 fromR_8 sortR_9 valueR_10 k_blocks_11 k_guarded_12 k_trains_13 k_omen_14 k_train_15 madeLockA_16 (x1 + (1 : Int32)))) X)))
def R_lines (sizeR : Int32) (madeLocks : Int32) (hasBlocks : Int32) (omened : Int32) (highest : Int32) (atR : Int32) (fromR : Int32) (sortR : Int32) (valueR : Int32) (k_blocks : Int32) (k_guarded : Int32) (k_trains : Int32) (k_omen : Nat → Int32) (k_train : Nat → Int32) (madeLockA : Nat → Int32) (tape : Nat → Int32) (Q : Int32 → Int32 → Int32 → Int32 → Int32 → Int32 → Int32 → Int32 → Int32 → Int32 → Int32 → Int32 → (Nat → Int32) → (Nat → Int32) → (Nat → Int32) → Prop) (X : Int32 → Int32 → Prop) : Prop :=
  (∃ n_17 : Nat, R_lines_L2 sizeR tape (fun madeLocks_18 hasBlocks_19 omened_20 highest_21 atR_22 fromR_23 sortR_24 valueR_25 k_blocks_26 k_guarded_27 k_trains_28 k_omen_29 k_train_30 madeLockA_31 x1_32 => (R_need fromR_23 (if k_blocks_26 ≤ highest_21 then (0 : Int32) else (1 : Int32)) (6 : Int32) ((R_isLocked madeLocks_18 omened_20 madeLockA_31 (fun r_35 => (R_need fromR_23 (if r_35 = 0 then (1 : Int32) else (0 : Int32)) (7 : Int32) ((Q x1_32 madeLocks_18 hasBlocks_19 omened_20 highest_21 atR_22 fromR_23 sortR_24 valueR_25 k_blocks_26 k_guarded_27 k_trains_28 k_omen_29 k_train_30 madeLockA_31)) X)))) X)) X n_17 madeLocks hasBlocks omened highest atR fromR sortR valueR k_blocks k_guarded k_trains k_omen k_train madeLockA (0 : Int32))
